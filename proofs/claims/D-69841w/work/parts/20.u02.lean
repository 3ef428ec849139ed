/-! printed by gen_all.py: what the methods compute -/
set_option maxRecDepth 100000
/-! SchemaPascal.rowIn(II)I -/
theorem zm_19 {σ : Nat → Nat} {n0 : Nat} {bf : ab_B} : ab_code (zx σ n0 bf).1 19 = prog_1_method_19_code := rfl
theorem zq_19 {σ : Nat → Nat} {n0 : Nat} {bf : ab_B} : ab_maxL (zx σ n0 bf).1 19 = 4 := rfl
theorem zr_19 {σ : Nat → Nat} {n0 : Nat} {bf : ab_B} : ab_ret (zx σ n0 bf).1 19 = (Option.some Jvm.ClassFile.FieldType.int) := rfl
theorem d_19_0 {σ : Nat → Nat} {n0 : Nat} {bf : ab_B} : decode (ab_code (zx σ n0 bf).1 19) 0 = .ok (.aload_n 0, 1) := zd zm_19 (by decide +kernel)
theorem d_19_1 {σ : Nat → Nat} {n0 : Nat} {bf : ab_B} : decode (ab_code (zx σ n0 bf).1 19) 1 = .ok (.iload_n 1, 1) := zd zm_19 (by decide +kernel)
theorem d_19_2 {σ : Nat → Nat} {n0 : Nat} {bf : ab_B} : decode (ab_code (zx σ n0 bf).1 19) 2 = .ok (.invokevirtual 166, 3) := zd zm_19 (by decide +kernel)
theorem d_19_5 {σ : Nat → Nat} {n0 : Nat} {bf : ab_B} : decode (ab_code (zx σ n0 bf).1 19) 5 = .ok (.istore_n 3, 1) := zd zm_19 (by decide +kernel)
theorem d_19_6 {σ : Nat → Nat} {n0 : Nat} {bf : ab_B} : decode (ab_code (zx σ n0 bf).1 19) 6 = .ok (.iload_n 2, 1) := zd zm_19 (by decide +kernel)
theorem d_19_7 {σ : Nat → Nat} {n0 : Nat} {bf : ab_B} : decode (ab_code (zx σ n0 bf).1 19) 7 = .ok (.ifCond .lt 63, 3) := zd zm_19 (by decide +kernel)
theorem d_19_10 {σ : Nat → Nat} {n0 : Nat} {bf : ab_B} : decode (ab_code (zx σ n0 bf).1 19) 10 = .ok (.iload_n 2, 1) := zd zm_19 (by decide +kernel)
theorem d_19_11 {σ : Nat → Nat} {n0 : Nat} {bf : ab_B} : decode (ab_code (zx σ n0 bf).1 19) 11 = .ok (.aload_n 0, 1) := zd zm_19 (by decide +kernel)
theorem d_19_12 {σ : Nat → Nat} {n0 : Nat} {bf : ab_B} : decode (ab_code (zx σ n0 bf).1 19) 12 = .ok (.getfield 39, 3) := zd zm_19 (by decide +kernel)
theorem d_19_15 {σ : Nat → Nat} {n0 : Nat} {bf : ab_B} : decode (ab_code (zx σ n0 bf).1 19) 15 = .ok (.getfield 169, 3) := zd zm_19 (by decide +kernel)
theorem d_19_18 {σ : Nat → Nat} {n0 : Nat} {bf : ab_B} : decode (ab_code (zx σ n0 bf).1 19) 18 = .ok (.iload_n 3, 1) := zd zm_19 (by decide +kernel)
theorem d_19_19 {σ : Nat → Nat} {n0 : Nat} {bf : ab_B} : decode (ab_code (zx σ n0 bf).1 19) 19 = .ok (.aaload, 1) := zd zm_19 (by decide +kernel)
theorem d_19_20 {σ : Nat → Nat} {n0 : Nat} {bf : ab_B} : decode (ab_code (zx σ n0 bf).1 19) 20 = .ok (.getfield 181, 3) := zd zm_19 (by decide +kernel)
theorem d_19_23 {σ : Nat → Nat} {n0 : Nat} {bf : ab_B} : decode (ab_code (zx σ n0 bf).1 19) 23 = .ok (.if_icmp .ge 47, 3) := zd zm_19 (by decide +kernel)
theorem d_19_26 {σ : Nat → Nat} {n0 : Nat} {bf : ab_B} : decode (ab_code (zx σ n0 bf).1 19) 26 = .ok (.aload_n 0, 1) := zd zm_19 (by decide +kernel)
theorem d_19_27 {σ : Nat → Nat} {n0 : Nat} {bf : ab_B} : decode (ab_code (zx σ n0 bf).1 19) 27 = .ok (.getfield 39, 3) := zd zm_19 (by decide +kernel)
theorem d_19_30 {σ : Nat → Nat} {n0 : Nat} {bf : ab_B} : decode (ab_code (zx σ n0 bf).1 19) 30 = .ok (.getfield 187, 3) := zd zm_19 (by decide +kernel)
theorem d_19_33 {σ : Nat → Nat} {n0 : Nat} {bf : ab_B} : decode (ab_code (zx σ n0 bf).1 19) 33 = .ok (.iload_n 3, 1) := zd zm_19 (by decide +kernel)
theorem d_19_34 {σ : Nat → Nat} {n0 : Nat} {bf : ab_B} : decode (ab_code (zx σ n0 bf).1 19) 34 = .ok (.iaload, 1) := zd zm_19 (by decide +kernel)
theorem d_19_35 {σ : Nat → Nat} {n0 : Nat} {bf : ab_B} : decode (ab_code (zx σ n0 bf).1 19) 35 = .ok (.iload_n 2, 1) := zd zm_19 (by decide +kernel)
theorem d_19_36 {σ : Nat → Nat} {n0 : Nat} {bf : ab_B} : decode (ab_code (zx σ n0 bf).1 19) 36 = .ok (.iadd, 1) := zd zm_19 (by decide +kernel)
theorem d_19_37 {σ : Nat → Nat} {n0 : Nat} {bf : ab_B} : decode (ab_code (zx σ n0 bf).1 19) 37 = .ok (.sipush 20000, 3) := zd zm_19 (by decide +kernel)
theorem d_19_40 {σ : Nat → Nat} {n0 : Nat} {bf : ab_B} : decode (ab_code (zx σ n0 bf).1 19) 40 = .ok (.if_icmp .gt 30, 3) := zd zm_19 (by decide +kernel)
theorem d_19_43 {σ : Nat → Nat} {n0 : Nat} {bf : ab_B} : decode (ab_code (zx σ n0 bf).1 19) 43 = .ok (.aload_n 0, 1) := zd zm_19 (by decide +kernel)
theorem d_19_44 {σ : Nat → Nat} {n0 : Nat} {bf : ab_B} : decode (ab_code (zx σ n0 bf).1 19) 44 = .ok (.getfield 39, 3) := zd zm_19 (by decide +kernel)
theorem d_19_47 {σ : Nat → Nat} {n0 : Nat} {bf : ab_B} : decode (ab_code (zx σ n0 bf).1 19) 47 = .ok (.getfield 190, 3) := zd zm_19 (by decide +kernel)
theorem d_19_50 {σ : Nat → Nat} {n0 : Nat} {bf : ab_B} : decode (ab_code (zx σ n0 bf).1 19) 50 = .ok (.aload_n 0, 1) := zd zm_19 (by decide +kernel)
theorem d_19_51 {σ : Nat → Nat} {n0 : Nat} {bf : ab_B} : decode (ab_code (zx σ n0 bf).1 19) 51 = .ok (.getfield 39, 3) := zd zm_19 (by decide +kernel)
theorem d_19_54 {σ : Nat → Nat} {n0 : Nat} {bf : ab_B} : decode (ab_code (zx σ n0 bf).1 19) 54 = .ok (.getfield 187, 3) := zd zm_19 (by decide +kernel)
theorem d_19_57 {σ : Nat → Nat} {n0 : Nat} {bf : ab_B} : decode (ab_code (zx σ n0 bf).1 19) 57 = .ok (.iload_n 3, 1) := zd zm_19 (by decide +kernel)
theorem d_19_58 {σ : Nat → Nat} {n0 : Nat} {bf : ab_B} : decode (ab_code (zx σ n0 bf).1 19) 58 = .ok (.iaload, 1) := zd zm_19 (by decide +kernel)
theorem d_19_59 {σ : Nat → Nat} {n0 : Nat} {bf : ab_B} : decode (ab_code (zx σ n0 bf).1 19) 59 = .ok (.iload_n 2, 1) := zd zm_19 (by decide +kernel)
theorem d_19_60 {σ : Nat → Nat} {n0 : Nat} {bf : ab_B} : decode (ab_code (zx σ n0 bf).1 19) 60 = .ok (.iadd, 1) := zd zm_19 (by decide +kernel)
theorem d_19_61 {σ : Nat → Nat} {n0 : Nat} {bf : ab_B} : decode (ab_code (zx σ n0 bf).1 19) 61 = .ok (.iaload, 1) := zd zm_19 (by decide +kernel)
theorem d_19_62 {σ : Nat → Nat} {n0 : Nat} {bf : ab_B} : decode (ab_code (zx σ n0 bf).1 19) 62 = .ok (.iconst (-1), 1) := zd zm_19 (by decide +kernel)
theorem d_19_63 {σ : Nat → Nat} {n0 : Nat} {bf : ab_B} : decode (ab_code (zx σ n0 bf).1 19) 63 = .ok (.if_icmp .eq 7, 3) := zd zm_19 (by decide +kernel)
theorem d_19_66 {σ : Nat → Nat} {n0 : Nat} {bf : ab_B} : decode (ab_code (zx σ n0 bf).1 19) 66 = .ok (.iconst 1, 1) := zd zm_19 (by decide +kernel)
theorem d_19_67 {σ : Nat → Nat} {n0 : Nat} {bf : ab_B} : decode (ab_code (zx σ n0 bf).1 19) 67 = .ok (.goto 4, 3) := zd zm_19 (by decide +kernel)
theorem d_19_70 {σ : Nat → Nat} {n0 : Nat} {bf : ab_B} : decode (ab_code (zx σ n0 bf).1 19) 70 = .ok (.iconst 0, 1) := zd zm_19 (by decide +kernel)
theorem d_19_71 {σ : Nat → Nat} {n0 : Nat} {bf : ab_B} : decode (ab_code (zx σ n0 bf).1 19) 71 = .ok (.invokestatic 163, 3) := zd zm_19 (by decide +kernel)
theorem d_19_74 {σ : Nat → Nat} {n0 : Nat} {bf : ab_B} : decode (ab_code (zx σ n0 bf).1 19) 74 = .ok (.aload_n 0, 1) := zd zm_19 (by decide +kernel)
theorem d_19_75 {σ : Nat → Nat} {n0 : Nat} {bf : ab_B} : decode (ab_code (zx σ n0 bf).1 19) 75 = .ok (.getfield 39, 3) := zd zm_19 (by decide +kernel)
theorem d_19_78 {σ : Nat → Nat} {n0 : Nat} {bf : ab_B} : decode (ab_code (zx σ n0 bf).1 19) 78 = .ok (.getfield 187, 3) := zd zm_19 (by decide +kernel)
theorem d_19_81 {σ : Nat → Nat} {n0 : Nat} {bf : ab_B} : decode (ab_code (zx σ n0 bf).1 19) 81 = .ok (.iload_n 3, 1) := zd zm_19 (by decide +kernel)
theorem d_19_82 {σ : Nat → Nat} {n0 : Nat} {bf : ab_B} : decode (ab_code (zx σ n0 bf).1 19) 82 = .ok (.iaload, 1) := zd zm_19 (by decide +kernel)
theorem d_19_83 {σ : Nat → Nat} {n0 : Nat} {bf : ab_B} : decode (ab_code (zx σ n0 bf).1 19) 83 = .ok (.iload_n 2, 1) := zd zm_19 (by decide +kernel)
theorem d_19_84 {σ : Nat → Nat} {n0 : Nat} {bf : ab_B} : decode (ab_code (zx σ n0 bf).1 19) 84 = .ok (.iadd, 1) := zd zm_19 (by decide +kernel)
theorem d_19_85 {σ : Nat → Nat} {n0 : Nat} {bf : ab_B} : decode (ab_code (zx σ n0 bf).1 19) 85 = .ok (.ireturn, 1) := zd zm_19 (by decide +kernel)
def w_X1_rowIn_71 (X : zs_X) (d : Nat) (p0 : Nat) (p2 : Int32) (p3 : Int32) (q0 : Int32) (S : zs_T) (Q : zs_Q) : Prop :=
  (zs_C X d 17 [.int q0] S (zs_kV (fun S1 => (zs_K S1 p0 = some (.inl 0) ∧ ∃ b4, (zs_R S1 3 p0) = some b4 ∧ zs_K S1 b4 = some (.inl 1) ∧ ∃ b7, (zs_R S1 1021 b4) = some b7 ∧ zs_A S1 b7 0 p3 ∧ Q (.returned (some (.int ((zs_i S1 b7 p3.toNatClampNeg) + p2)))) S1)) Q))
theorem u_X1_rowIn_71 {σ : Nat → Nat} {n0 : Nat} {bf : ab_B} {d : Nat} {p0 : Nat} {p2 : Int32} {p3 : Int32} {q0 : Int32} {S : zs_T} {Q : zs_Q} (hB : zt_B bf) (h : w_X1_rowIn_71 (zx σ n0 bf) d p0 p2 p3 q0 S Q) : zs_U (zx σ n0 bf) d 19 71 [(0, .ref p0), (2, .int p2), (3, .int p3)] [.int q0] S Q := by
  unfold w_X1_rowIn_71 at h
  refine zc_0_163 (x0 := q0) hB rfl d_19_71 (Nat.le_of_ble_eq_true rfl) h (fun S1 h => ?_)
  refine zu_aload_n d_19_74 rfl (zs_ra _) ?_
  obtain ⟨k3, h⟩ := h
  refine zg_0_39 rfl d_19_75 k3 ?_
  obtain ⟨b4, e5, h⟩ := h
  refine zs_stk0 (zs_rfe e5) ?_
  obtain ⟨k6, h⟩ := h
  refine zg_0_187 rfl d_19_78 k6 ?_
  refine zu_iload_n d_19_81 rfl ?_
  obtain ⟨b7, e8, h⟩ := h
  refine zs_stk1 (zs_rfe e8) ?_
  obtain ⟨k9, h⟩ := h
  refine zu_iald (k := 0) d_19_82 rfl rfl k9 ?_
  refine zu_iload_n d_19_83 rfl ?_
  refine zu_stk d_19_84 rfl rfl ?_
  exact zu_iret d_19_85 zr_19 rfl h
def w_X1_rowIn_70 (X : zs_X) (d : Nat) (p0 : Nat) (p2 : Int32) (p3 : Int32) (S : zs_T) (Q : zs_Q) : Prop :=
  (w_X1_rowIn_71 X d p0 p2 p3 (0 : Int32) S Q)
theorem u_X1_rowIn_70 {σ : Nat → Nat} {n0 : Nat} {bf : ab_B} {d : Nat} {p0 : Nat} {p2 : Int32} {p3 : Int32} {S : zs_T} {Q : zs_Q} (hB : zt_B bf) (h : w_X1_rowIn_70 (zx σ n0 bf) d p0 p2 p3 S Q) : zs_U (zx σ n0 bf) d 19 70 [(0, .ref p0), (2, .int p2), (3, .int p3)] [] S Q := by
  unfold w_X1_rowIn_70 at h
  refine zu_iconst d_19_70 zi_0 ?_
  exact (u_X1_rowIn_71 hB h).weak ⟨rfl, rfl, rfl, trivial⟩
def w_X1_rowIn_43 (X : zs_X) (d : Nat) (p0 : Nat) (p2 : Int32) (p3 : Int32) (S : zs_T) (Q : zs_Q) : Prop :=
  (zs_K S p0 = some (.inl 0) ∧ ∃ b2, (zs_R S 3 p0) = some b2 ∧ zs_K S b2 = some (.inl 1) ∧ ∃ b5, (zs_R S 1021 b2) = some b5 ∧ zs_A S b5 0 p3 ∧ ∃ b8, (zs_R S 1012 b2) = some b8 ∧ zs_A S b8 0 ((zs_i S b5 p3.toNatClampNeg) + p2) ∧ (((zs_i S b8 ((zs_i S b5 p3.toNatClampNeg) + p2).toNatClampNeg) = (-1 : Int32) → w_X1_rowIn_70 X d p0 p2 p3 S Q) ∧ (¬ ((zs_i S b8 ((zs_i S b5 p3.toNatClampNeg) + p2).toNatClampNeg) = (-1 : Int32)) → (w_X1_rowIn_71 X d p0 p2 p3 (1 : Int32) S Q))))
theorem u_X1_rowIn_43 {σ : Nat → Nat} {n0 : Nat} {bf : ab_B} {d : Nat} {p0 : Nat} {p2 : Int32} {p3 : Int32} {S : zs_T} {Q : zs_Q} (hB : zt_B bf) (h : w_X1_rowIn_43 (zx σ n0 bf) d p0 p2 p3 S Q) : zs_U (zx σ n0 bf) d 19 43 [(0, .ref p0), (2, .int p2), (3, .int p3)] [] S Q := by
  unfold w_X1_rowIn_43 at h
  refine zu_aload_n d_19_43 rfl (zs_ra _) ?_
  obtain ⟨k1, h⟩ := h
  refine zg_0_39 rfl d_19_44 k1 ?_
  obtain ⟨b2, e3, h⟩ := h
  refine zs_stk0 (zs_rfe e3) ?_
  obtain ⟨k4, h⟩ := h
  refine zg_0_190 rfl d_19_47 k4 ?_
  refine zu_aload_n d_19_50 rfl (zs_ra _) ?_
  refine zg_0_39 rfl d_19_51 k1 ?_
  refine zs_stk0 (zs_rfe e3) ?_
  refine zg_0_187 rfl d_19_54 k4 ?_
  refine zu_iload_n d_19_57 rfl ?_
  obtain ⟨b5, e6, h⟩ := h
  refine zs_stk1 (zs_rfe e6) ?_
  obtain ⟨k7, h⟩ := h
  refine zu_iald (k := 0) d_19_58 rfl rfl k7 ?_
  refine zu_iload_n d_19_59 rfl ?_
  refine zu_stk d_19_60 rfl rfl ?_
  obtain ⟨b8, e9, h⟩ := h
  refine zs_stk1 (zs_rfe e9) ?_
  obtain ⟨k10, h⟩ := h
  refine zu_iald (k := 0) d_19_61 rfl rfl k10 ?_
  refine zu_iconst d_19_62 zi_m1 ?_
  refine zu_cmpeq (t := 70) d_19_63 rfl (fun c11 => ?_) (fun c11 => ?_)
  · have h := h.1 c11
    exact (u_X1_rowIn_70 hB h).weak ⟨rfl, rfl, rfl, trivial⟩
  · have h := h.2 c11
    refine zu_iconst d_19_66 zi_1 ?_
    refine zu_goto (t := 71) d_19_67 rfl ?_
    exact (u_X1_rowIn_71 hB h).weak ⟨rfl, rfl, rfl, trivial⟩
def w_X1_rowIn (X : zs_X) (d : Nat) (p0 : Nat) (p1 : Int32) (p2 : Int32) (S : zs_T) (Q : zs_Q) : Prop :=
  (zs_K S p0 = some (.inl 0) ∧ zs_C X d 16 [.ref p0, .int p1] S (zs_kI (fun v3 S2 => (((p2 < 0 → w_X1_rowIn_70 X d p0 p2 v3 S2 Q) ∧ (¬ (p2 < 0) → (zs_K S2 p0 = some (.inl 0) ∧ ∃ b6, (zs_R S2 3 p0) = some b6 ∧ zs_K S2 b6 = some (.inl 1) ∧ ∃ b9, (zs_R S2 1017 b6) = some b9 ∧ zs_A S2 b9 5 v3 ∧ ∃ b12, (zs_r S2 b9 v3.toNatClampNeg) = some b12 ∧ zs_K S2 b12 = some (.inl 10) ∧ (((zs_I S2 10008 b12) ≤ p2 → w_X1_rowIn_70 X d p0 p2 v3 S2 Q) ∧ (¬ ((zs_I S2 10008 b12) ≤ p2) → (∃ b16, (zs_R S2 1021 b6) = some b16 ∧ zs_A S2 b16 0 v3 ∧ (((20000 : Int32) < ((zs_i S2 b16 v3.toNatClampNeg) + p2) → w_X1_rowIn_70 X d p0 p2 v3 S2 Q) ∧ (¬ ((20000 : Int32) < ((zs_i S2 b16 v3.toNatClampNeg) + p2)) → w_X1_rowIn_43 X d p0 p2 v3 S2 Q)))))))))) Q))
theorem u_X1_rowIn {σ : Nat → Nat} {n0 : Nat} {bf : ab_B} {d : Nat} {p0 : Nat} {p1 : Int32} {p2 : Int32} {S : zs_T} {Q : zs_Q} (hB : zt_B bf) (hd : 1 ≤ d) (h : w_X1_rowIn (zx σ n0 bf) (d - 1) p0 p1 p2 S Q) : zs_C (zx σ n0 bf) d 19 [.ref p0, .int p1, .int p2] S Q := by
  have hL : lv_args 0 [.ref p0, .int p1, .int p2] = [(0, .ref p0), (1, .int p1), (2, .int p2)] := rfl
  refine zs_C.of1 (hB.2 19 (by decide) (by decide)) hd (by rw [hL]; exact zs_sub_self _ (by exact ⟨rfl, rfl, rfl, trivial⟩)) ?_
  rw [hL]
  clear hL
  unfold w_X1_rowIn at h
  refine zu_aload_n d_19_0 rfl (zs_ra _) ?_
  refine zu_iload_n d_19_1 rfl ?_
  obtain ⟨k1, h⟩ := h
  refine zc_0_166 (x0 := p1) hB rfl k1 d_19_2 (Nat.le_of_ble_eq_true rfl) h (fun v3 S2 h => ?_)
  refine zu_istore_n d_19_5 (zs_lt zq_19 rfl) ?_
  refine zu_iload_n d_19_6 rfl ?_
  refine zu_iflt (t := 70) d_19_7 rfl (fun c4 => ?_) (fun c4 => ?_)
  · have h := h.1 c4
    exact (u_X1_rowIn_70 hB h).weak ⟨rfl, rfl, rfl, trivial⟩
  · have h := h.2 c4
    refine zu_iload_n d_19_10 rfl ?_
    refine zu_aload_n d_19_11 rfl (zs_ra _) ?_
    obtain ⟨k5, h⟩ := h
    refine zg_0_39 rfl d_19_12 k5 ?_
    obtain ⟨b6, e7, h⟩ := h
    refine zs_stk0 (zs_rfe e7) ?_
    obtain ⟨k8, h⟩ := h
    refine zg_0_169 rfl d_19_15 k8 ?_
    refine zu_iload_n d_19_18 rfl ?_
    obtain ⟨b9, e10, h⟩ := h
    refine zs_stk1 (zs_rfe e10) ?_
    obtain ⟨k11, h⟩ := h
    refine zu_aald (k := 5) d_19_19 rfl rfl k11 ?_
    obtain ⟨b12, e13, h⟩ := h
    refine zs_stk0 (zs_rfe e13) ?_
    obtain ⟨k14, h⟩ := h
    refine zg_0_181 rfl d_19_20 k14 ?_
    refine zu_cmpge (t := 70) d_19_23 rfl (fun c15 => ?_) (fun c15 => ?_)
    · have h := h.1 c15
      exact (u_X1_rowIn_70 hB h).weak ⟨rfl, rfl, rfl, trivial⟩
    · have h := h.2 c15
      refine zu_aload_n d_19_26 rfl (zs_ra _) ?_
      refine zg_0_39 rfl d_19_27 k5 ?_
      refine zs_stk0 (zs_rfe e7) ?_
      refine zg_0_187 rfl d_19_30 k8 ?_
      refine zu_iload_n d_19_33 rfl ?_
      obtain ⟨b16, e17, h⟩ := h
      refine zs_stk1 (zs_rfe e17) ?_
      obtain ⟨k18, h⟩ := h
      refine zu_iald (k := 0) d_19_34 rfl rfl k18 ?_
      refine zu_iload_n d_19_35 rfl ?_
      refine zu_stk d_19_36 rfl rfl ?_
      refine zu_sipush d_19_37 zh_20000 ?_
      refine zu_cmpgt (t := 70) d_19_40 rfl (fun c19 => ?_) (fun c19 => ?_)
      · have h := h.1 c19
        exact (u_X1_rowIn_70 hB h).weak ⟨rfl, rfl, rfl, trivial⟩
      · have h := h.2 c19
        exact (u_X1_rowIn_43 hB h).weak ⟨rfl, rfl, rfl, trivial⟩
/-! SchemaPascal.typeIn(II)LSchemaPascal$Type; -/
theorem zm_20 {σ : Nat → Nat} {n0 : Nat} {bf : ab_B} : ab_code (zx σ n0 bf).1 20 = prog_1_method_20_code := rfl
theorem zq_20 {σ : Nat → Nat} {n0 : Nat} {bf : ab_B} : ab_maxL (zx σ n0 bf).1 20 = 3 := rfl
theorem zr_20 {σ : Nat → Nat} {n0 : Nat} {bf : ab_B} : ab_ret (zx σ n0 bf).1 20 = (Option.some (Jvm.ClassFile.FieldType.object "SchemaPascal$Type")) := rfl
theorem d_20_0 {σ : Nat → Nat} {n0 : Nat} {bf : ab_B} : decode (ab_code (zx σ n0 bf).1 20) 0 = .ok (.aload_n 0, 1) := zd zm_20 (by decide +kernel)
theorem d_20_1 {σ : Nat → Nat} {n0 : Nat} {bf : ab_B} : decode (ab_code (zx σ n0 bf).1 20) 1 = .ok (.getfield 39, 3) := zd zm_20 (by decide +kernel)
theorem d_20_4 {σ : Nat → Nat} {n0 : Nat} {bf : ab_B} : decode (ab_code (zx σ n0 bf).1 20) 4 = .ok (.aload_n 0, 1) := zd zm_20 (by decide +kernel)
theorem d_20_5 {σ : Nat → Nat} {n0 : Nat} {bf : ab_B} : decode (ab_code (zx σ n0 bf).1 20) 5 = .ok (.getfield 39, 3) := zd zm_20 (by decide +kernel)
theorem d_20_8 {σ : Nat → Nat} {n0 : Nat} {bf : ab_B} : decode (ab_code (zx σ n0 bf).1 20) 8 = .ok (.getfield 138, 3) := zd zm_20 (by decide +kernel)
theorem d_20_11 {σ : Nat → Nat} {n0 : Nat} {bf : ab_B} : decode (ab_code (zx σ n0 bf).1 20) 11 = .ok (.iload_n 1, 1) := zd zm_20 (by decide +kernel)
theorem d_20_12 {σ : Nat → Nat} {n0 : Nat} {bf : ab_B} : decode (ab_code (zx σ n0 bf).1 20) 12 = .ok (.isub, 1) := zd zm_20 (by decide +kernel)
theorem d_20_13 {σ : Nat → Nat} {n0 : Nat} {bf : ab_B} : decode (ab_code (zx σ n0 bf).1 20) 13 = .ok (.iload_n 2, 1) := zd zm_20 (by decide +kernel)
theorem d_20_14 {σ : Nat → Nat} {n0 : Nat} {bf : ab_B} : decode (ab_code (zx σ n0 bf).1 20) 14 = .ok (.invokevirtual 193, 3) := zd zm_20 (by decide +kernel)
theorem d_20_17 {σ : Nat → Nat} {n0 : Nat} {bf : ab_B} : decode (ab_code (zx σ n0 bf).1 20) 17 = .ok (.areturn, 1) := zd zm_20 (by decide +kernel)
def w_X1_typeIn (X : zs_X) (d : Nat) (p0 : Nat) (p1 : Int32) (p2 : Int32) (S : zs_T) (Q : zs_Q) : Prop :=
  (zs_K S p0 = some (.inl 0) ∧ ∃ b2, (zs_R S 3 p0) = some b2 ∧ zs_K S b2 = some (.inl 1) ∧ zs_C X d 1062 [.ref b2, .int ((zs_I S 1025 b2) - p1), .int p2] S (zs_kR (fun v6 S5 => (Q (.returned (some (va_rf v6))) S5)) Q))
theorem u_X1_typeIn {σ : Nat → Nat} {n0 : Nat} {bf : ab_B} {d : Nat} {p0 : Nat} {p1 : Int32} {p2 : Int32} {S : zs_T} {Q : zs_Q} (hB : zt_B bf) (hd : 1 ≤ d) (h : w_X1_typeIn (zx σ n0 bf) (d - 1) p0 p1 p2 S Q) : zs_C (zx σ n0 bf) d 20 [.ref p0, .int p1, .int p2] S Q := by
  have hL : lv_args 0 [.ref p0, .int p1, .int p2] = [(0, .ref p0), (1, .int p1), (2, .int p2)] := rfl
  refine zs_C.of1 (hB.2 20 (by decide) (by decide)) hd (by rw [hL]; exact zs_sub_self _ (by exact ⟨rfl, rfl, rfl, trivial⟩)) ?_
  rw [hL]
  clear hL
  unfold w_X1_typeIn at h
  refine zu_aload_n d_20_0 rfl (zs_ra _) ?_
  obtain ⟨k1, h⟩ := h
  refine zg_0_39 rfl d_20_1 k1 ?_
  refine zu_aload_n d_20_4 rfl (zs_ra _) ?_
  refine zg_0_39 rfl d_20_5 k1 ?_
  obtain ⟨b2, e3, h⟩ := h
  refine zs_stk0 (zs_rfe e3) ?_
  obtain ⟨k4, h⟩ := h
  refine zg_0_138 rfl d_20_8 k4 ?_
  refine zu_iload_n d_20_11 rfl ?_
  refine zu_stk d_20_12 rfl rfl ?_
  refine zu_iload_n d_20_13 rfl ?_
  refine zs_stk2 (zs_rfe e3) ?_
  refine zc_0_193 (x0 := ((zs_I S 1025 b2) - p1)) (x1 := p2) hB rfl k4 d_20_14 (Nat.le_of_ble_eq_true rfl) h (fun v6 S5 h => ?_)
  exact zu_aret d_20_17 zr_20 (zs_rr _) h
/-! SchemaPascal.variable(III)I -/
theorem zm_21 {σ : Nat → Nat} {n0 : Nat} {bf : ab_B} : ab_code (zx σ n0 bf).1 21 = prog_1_method_22_code := rfl
theorem zq_21 {σ : Nat → Nat} {n0 : Nat} {bf : ab_B} : ab_maxL (zx σ n0 bf).1 21 = 10 := rfl
theorem zr_21 {σ : Nat → Nat} {n0 : Nat} {bf : ab_B} : ab_ret (zx σ n0 bf).1 21 = (Option.some Jvm.ClassFile.FieldType.int) := rfl
theorem d_21_0 {σ : Nat → Nat} {n0 : Nat} {bf : ab_B} : decode (ab_code (zx σ n0 bf).1 21) 0 = .ok (.aload_n 0, 1) := zd zm_21 (by decide +kernel)
theorem d_21_1 {σ : Nat → Nat} {n0 : Nat} {bf : ab_B} : decode (ab_code (zx σ n0 bf).1 21) 1 = .ok (.iload_n 1, 1) := zd zm_21 (by decide +kernel)
theorem d_21_2 {σ : Nat → Nat} {n0 : Nat} {bf : ab_B} : decode (ab_code (zx σ n0 bf).1 21) 2 = .ok (.iload_n 2, 1) := zd zm_21 (by decide +kernel)
theorem d_21_3 {σ : Nat → Nat} {n0 : Nat} {bf : ab_B} : decode (ab_code (zx σ n0 bf).1 21) 3 = .ok (.invokevirtual 197, 3) := zd zm_21 (by decide +kernel)
theorem d_21_6 {σ : Nat → Nat} {n0 : Nat} {bf : ab_B} : decode (ab_code (zx σ n0 bf).1 21) 6 = .ok (.istore 4, 2) := zd zm_21 (by decide +kernel)
theorem d_21_8 {σ : Nat → Nat} {n0 : Nat} {bf : ab_B} : decode (ab_code (zx σ n0 bf).1 21) 8 = .ok (.aload_n 0, 1) := zd zm_21 (by decide +kernel)
theorem d_21_9 {σ : Nat → Nat} {n0 : Nat} {bf : ab_B} : decode (ab_code (zx σ n0 bf).1 21) 9 = .ok (.iload_n 1, 1) := zd zm_21 (by decide +kernel)
theorem d_21_10 {σ : Nat → Nat} {n0 : Nat} {bf : ab_B} : decode (ab_code (zx σ n0 bf).1 21) 10 = .ok (.iload_n 2, 1) := zd zm_21 (by decide +kernel)
theorem d_21_11 {σ : Nat → Nat} {n0 : Nat} {bf : ab_B} : decode (ab_code (zx σ n0 bf).1 21) 11 = .ok (.invokevirtual 201, 3) := zd zm_21 (by decide +kernel)
theorem d_21_14 {σ : Nat → Nat} {n0 : Nat} {bf : ab_B} : decode (ab_code (zx σ n0 bf).1 21) 14 = .ok (.astore 5, 2) := zd zm_21 (by decide +kernel)
theorem d_21_16 {σ : Nat → Nat} {n0 : Nat} {bf : ab_B} : decode (ab_code (zx σ n0 bf).1 21) 16 = .ok (.aload 5, 2) := zd zm_21 (by decide +kernel)
theorem d_21_18 {σ : Nat → Nat} {n0 : Nat} {bf : ab_B} : decode (ab_code (zx σ n0 bf).1 21) 18 = .ok (.invokevirtual 218, 3) := zd zm_21 (by decide +kernel)
theorem d_21_21 {σ : Nat → Nat} {n0 : Nat} {bf : ab_B} : decode (ab_code (zx σ n0 bf).1 21) 21 = .ok (.ifCond .eq 17, 3) := zd zm_21 (by decide +kernel)
theorem d_21_24 {σ : Nat → Nat} {n0 : Nat} {bf : ab_B} : decode (ab_code (zx σ n0 bf).1 21) 24 = .ok (.aload 5, 2) := zd zm_21 (by decide +kernel)
theorem d_21_26 {σ : Nat → Nat} {n0 : Nat} {bf : ab_B} : decode (ab_code (zx σ n0 bf).1 21) 26 = .ok (.invokevirtual 224, 3) := zd zm_21 (by decide +kernel)
theorem d_21_29 {σ : Nat → Nat} {n0 : Nat} {bf : ab_B} : decode (ab_code (zx σ n0 bf).1 21) 29 = .ok (.getfield 228, 3) := zd zm_21 (by decide +kernel)
theorem d_21_32 {σ : Nat → Nat} {n0 : Nat} {bf : ab_B} : decode (ab_code (zx σ n0 bf).1 21) 32 = .ok (.invokevirtual 158, 3) := zd zm_21 (by decide +kernel)
theorem d_21_35 {σ : Nat → Nat} {n0 : Nat} {bf : ab_B} : decode (ab_code (zx σ n0 bf).1 21) 35 = .ok (.goto 4, 3) := zd zm_21 (by decide +kernel)
theorem d_21_38 {σ : Nat → Nat} {n0 : Nat} {bf : ab_B} : decode (ab_code (zx σ n0 bf).1 21) 38 = .ok (.iconst 0, 1) := zd zm_21 (by decide +kernel)
theorem d_21_39 {σ : Nat → Nat} {n0 : Nat} {bf : ab_B} : decode (ab_code (zx σ n0 bf).1 21) 39 = .ok (.istore 6, 2) := zd zm_21 (by decide +kernel)
theorem d_21_41 {σ : Nat → Nat} {n0 : Nat} {bf : ab_B} : decode (ab_code (zx σ n0 bf).1 21) 41 = .ok (.iload_n 3, 1) := zd zm_21 (by decide +kernel)
theorem d_21_42 {σ : Nat → Nat} {n0 : Nat} {bf : ab_B} : decode (ab_code (zx σ n0 bf).1 21) 42 = .ok (.ifCond .lt 15, 3) := zd zm_21 (by decide +kernel)
theorem d_21_45 {σ : Nat → Nat} {n0 : Nat} {bf : ab_B} : decode (ab_code (zx σ n0 bf).1 21) 45 = .ok (.iload_n 3, 1) := zd zm_21 (by decide +kernel)
theorem d_21_46 {σ : Nat → Nat} {n0 : Nat} {bf : ab_B} : decode (ab_code (zx σ n0 bf).1 21) 46 = .ok (.iconst 2, 1) := zd zm_21 (by decide +kernel)
theorem d_21_47 {σ : Nat → Nat} {n0 : Nat} {bf : ab_B} : decode (ab_code (zx σ n0 bf).1 21) 47 = .ok (.iload 6, 2) := zd zm_21 (by decide +kernel)
theorem d_21_49 {σ : Nat → Nat} {n0 : Nat} {bf : ab_B} : decode (ab_code (zx σ n0 bf).1 21) 49 = .ok (.iadd, 1) := zd zm_21 (by decide +kernel)
theorem d_21_50 {σ : Nat → Nat} {n0 : Nat} {bf : ab_B} : decode (ab_code (zx σ n0 bf).1 21) 50 = .ok (.if_icmp .ge 7, 3) := zd zm_21 (by decide +kernel)
theorem d_21_53 {σ : Nat → Nat} {n0 : Nat} {bf : ab_B} : decode (ab_code (zx σ n0 bf).1 21) 53 = .ok (.iconst 1, 1) := zd zm_21 (by decide +kernel)
theorem d_21_54 {σ : Nat → Nat} {n0 : Nat} {bf : ab_B} : decode (ab_code (zx σ n0 bf).1 21) 54 = .ok (.goto 4, 3) := zd zm_21 (by decide +kernel)
theorem d_21_57 {σ : Nat → Nat} {n0 : Nat} {bf : ab_B} : decode (ab_code (zx σ n0 bf).1 21) 57 = .ok (.iconst 0, 1) := zd zm_21 (by decide +kernel)
theorem d_21_58 {σ : Nat → Nat} {n0 : Nat} {bf : ab_B} : decode (ab_code (zx σ n0 bf).1 21) 58 = .ok (.invokestatic 163, 3) := zd zm_21 (by decide +kernel)
theorem d_21_61 {σ : Nat → Nat} {n0 : Nat} {bf : ab_B} : decode (ab_code (zx σ n0 bf).1 21) 61 = .ok (.aload_n 0, 1) := zd zm_21 (by decide +kernel)
theorem d_21_62 {σ : Nat → Nat} {n0 : Nat} {bf : ab_B} : decode (ab_code (zx σ n0 bf).1 21) 62 = .ok (.getfield 39, 3) := zd zm_21 (by decide +kernel)
theorem d_21_65 {σ : Nat → Nat} {n0 : Nat} {bf : ab_B} : decode (ab_code (zx σ n0 bf).1 21) 65 = .ok (.aload 5, 2) := zd zm_21 (by decide +kernel)
theorem d_21_67 {σ : Nat → Nat} {n0 : Nat} {bf : ab_B} : decode (ab_code (zx σ n0 bf).1 21) 67 = .ok (.aload_n 0, 1) := zd zm_21 (by decide +kernel)
theorem d_21_68 {σ : Nat → Nat} {n0 : Nat} {bf : ab_B} : decode (ab_code (zx σ n0 bf).1 21) 68 = .ok (.getfield 39, 3) := zd zm_21 (by decide +kernel)
theorem d_21_71 {σ : Nat → Nat} {n0 : Nat} {bf : ab_B} : decode (ab_code (zx σ n0 bf).1 21) 71 = .ok (.getfield 204, 3) := zd zm_21 (by decide +kernel)
theorem d_21_74 {σ : Nat → Nat} {n0 : Nat} {bf : ab_B} : decode (ab_code (zx σ n0 bf).1 21) 74 = .ok (.iload 4, 2) := zd zm_21 (by decide +kernel)
theorem d_21_76 {σ : Nat → Nat} {n0 : Nat} {bf : ab_B} : decode (ab_code (zx σ n0 bf).1 21) 76 = .ok (.iaload, 1) := zd zm_21 (by decide +kernel)
theorem d_21_77 {σ : Nat → Nat} {n0 : Nat} {bf : ab_B} : decode (ab_code (zx σ n0 bf).1 21) 77 = .ok (.invokevirtual 207, 3) := zd zm_21 (by decide +kernel)
theorem d_21_80 {σ : Nat → Nat} {n0 : Nat} {bf : ab_B} : decode (ab_code (zx σ n0 bf).1 21) 80 = .ok (.istore 7, 2) := zd zm_21 (by decide +kernel)
theorem d_21_82 {σ : Nat → Nat} {n0 : Nat} {bf : ab_B} : decode (ab_code (zx σ n0 bf).1 21) 82 = .ok (.iload_n 3, 1) := zd zm_21 (by decide +kernel)
theorem d_21_83 {σ : Nat → Nat} {n0 : Nat} {bf : ab_B} : decode (ab_code (zx σ n0 bf).1 21) 83 = .ok (.ifCond .ne 6, 3) := zd zm_21 (by decide +kernel)
theorem d_21_86 {σ : Nat → Nat} {n0 : Nat} {bf : ab_B} : decode (ab_code (zx σ n0 bf).1 21) 86 = .ok (.iload 7, 2) := zd zm_21 (by decide +kernel)
theorem d_21_88 {σ : Nat → Nat} {n0 : Nat} {bf : ab_B} : decode (ab_code (zx σ n0 bf).1 21) 88 = .ok (.ireturn, 1) := zd zm_21 (by decide +kernel)
theorem d_21_89 {σ : Nat → Nat} {n0 : Nat} {bf : ab_B} : decode (ab_code (zx σ n0 bf).1 21) 89 = .ok (.iload_n 3, 1) := zd zm_21 (by decide +kernel)
theorem d_21_90 {σ : Nat → Nat} {n0 : Nat} {bf : ab_B} : decode (ab_code (zx σ n0 bf).1 21) 90 = .ok (.iconst 1, 1) := zd zm_21 (by decide +kernel)
theorem d_21_91 {σ : Nat → Nat} {n0 : Nat} {bf : ab_B} : decode (ab_code (zx σ n0 bf).1 21) 91 = .ok (.if_icmp .le 27, 3) := zd zm_21 (by decide +kernel)
theorem d_21_94 {σ : Nat → Nat} {n0 : Nat} {bf : ab_B} : decode (ab_code (zx σ n0 bf).1 21) 94 = .ok (.aload_n 0, 1) := zd zm_21 (by decide +kernel)
theorem d_21_95 {σ : Nat → Nat} {n0 : Nat} {bf : ab_B} : decode (ab_code (zx σ n0 bf).1 21) 95 = .ok (.getfield 39, 3) := zd zm_21 (by decide +kernel)
theorem d_21_98 {σ : Nat → Nat} {n0 : Nat} {bf : ab_B} : decode (ab_code (zx σ n0 bf).1 21) 98 = .ok (.getfield 215, 3) := zd zm_21 (by decide +kernel)
theorem d_21_101 {σ : Nat → Nat} {n0 : Nat} {bf : ab_B} : decode (ab_code (zx σ n0 bf).1 21) 101 = .ok (.aload_n 0, 1) := zd zm_21 (by decide +kernel)
theorem d_21_102 {σ : Nat → Nat} {n0 : Nat} {bf : ab_B} : decode (ab_code (zx σ n0 bf).1 21) 102 = .ok (.getfield 39, 3) := zd zm_21 (by decide +kernel)
theorem d_21_105 {σ : Nat → Nat} {n0 : Nat} {bf : ab_B} : decode (ab_code (zx σ n0 bf).1 21) 105 = .ok (.getfield 204, 3) := zd zm_21 (by decide +kernel)
theorem d_21_108 {σ : Nat → Nat} {n0 : Nat} {bf : ab_B} : decode (ab_code (zx σ n0 bf).1 21) 108 = .ok (.iload 4, 2) := zd zm_21 (by decide +kernel)
theorem d_21_110 {σ : Nat → Nat} {n0 : Nat} {bf : ab_B} : decode (ab_code (zx σ n0 bf).1 21) 110 = .ok (.iaload, 1) := zd zm_21 (by decide +kernel)
theorem d_21_111 {σ : Nat → Nat} {n0 : Nat} {bf : ab_B} : decode (ab_code (zx σ n0 bf).1 21) 111 = .ok (.iload_n 3, 1) := zd zm_21 (by decide +kernel)
theorem d_21_112 {σ : Nat → Nat} {n0 : Nat} {bf : ab_B} : decode (ab_code (zx σ n0 bf).1 21) 112 = .ok (.iadd, 1) := zd zm_21 (by decide +kernel)
theorem d_21_113 {σ : Nat → Nat} {n0 : Nat} {bf : ab_B} : decode (ab_code (zx σ n0 bf).1 21) 113 = .ok (.iconst 2, 1) := zd zm_21 (by decide +kernel)
theorem d_21_114 {σ : Nat → Nat} {n0 : Nat} {bf : ab_B} : decode (ab_code (zx σ n0 bf).1 21) 114 = .ok (.isub, 1) := zd zm_21 (by decide +kernel)
theorem d_21_115 {σ : Nat → Nat} {n0 : Nat} {bf : ab_B} : decode (ab_code (zx σ n0 bf).1 21) 115 = .ok (.laload, 1) := zd zm_21 (by decide +kernel)
theorem d_21_116 {σ : Nat → Nat} {n0 : Nat} {bf : ab_B} : decode (ab_code (zx σ n0 bf).1 21) 116 = .ok (.l2i, 1) := zd zm_21 (by decide +kernel)
theorem d_21_117 {σ : Nat → Nat} {n0 : Nat} {bf : ab_B} : decode (ab_code (zx σ n0 bf).1 21) 117 = .ok (.ireturn, 1) := zd zm_21 (by decide +kernel)
theorem d_21_118 {σ : Nat → Nat} {n0 : Nat} {bf : ab_B} : decode (ab_code (zx σ n0 bf).1 21) 118 = .ok (.iconst 0, 1) := zd zm_21 (by decide +kernel)
theorem d_21_119 {σ : Nat → Nat} {n0 : Nat} {bf : ab_B} : decode (ab_code (zx σ n0 bf).1 21) 119 = .ok (.istore 8, 2) := zd zm_21 (by decide +kernel)
theorem d_21_121 {σ : Nat → Nat} {n0 : Nat} {bf : ab_B} : decode (ab_code (zx σ n0 bf).1 21) 121 = .ok (.iconst 0, 1) := zd zm_21 (by decide +kernel)
theorem d_21_122 {σ : Nat → Nat} {n0 : Nat} {bf : ab_B} : decode (ab_code (zx σ n0 bf).1 21) 122 = .ok (.istore 9, 2) := zd zm_21 (by decide +kernel)
theorem d_21_124 {σ : Nat → Nat} {n0 : Nat} {bf : ab_B} : decode (ab_code (zx σ n0 bf).1 21) 124 = .ok (.iload 9, 2) := zd zm_21 (by decide +kernel)
theorem d_21_126 {σ : Nat → Nat} {n0 : Nat} {bf : ab_B} : decode (ab_code (zx σ n0 bf).1 21) 126 = .ok (.iload 7, 2) := zd zm_21 (by decide +kernel)
theorem d_21_128 {σ : Nat → Nat} {n0 : Nat} {bf : ab_B} : decode (ab_code (zx σ n0 bf).1 21) 128 = .ok (.if_icmp .ge 43, 3) := zd zm_21 (by decide +kernel)
theorem d_21_131 {σ : Nat → Nat} {n0 : Nat} {bf : ab_B} : decode (ab_code (zx σ n0 bf).1 21) 131 = .ok (.iload 8, 2) := zd zm_21 (by decide +kernel)
theorem d_21_133 {σ : Nat → Nat} {n0 : Nat} {bf : ab_B} : decode (ab_code (zx σ n0 bf).1 21) 133 = .ok (.aload_n 0, 1) := zd zm_21 (by decide +kernel)
theorem d_21_134 {σ : Nat → Nat} {n0 : Nat} {bf : ab_B} : decode (ab_code (zx σ n0 bf).1 21) 134 = .ok (.getfield 39, 3) := zd zm_21 (by decide +kernel)
theorem d_21_137 {σ : Nat → Nat} {n0 : Nat} {bf : ab_B} : decode (ab_code (zx σ n0 bf).1 21) 137 = .ok (.getfield 211, 3) := zd zm_21 (by decide +kernel)
theorem d_21_140 {σ : Nat → Nat} {n0 : Nat} {bf : ab_B} : decode (ab_code (zx σ n0 bf).1 21) 140 = .ok (.aload_n 0, 1) := zd zm_21 (by decide +kernel)
theorem d_21_141 {σ : Nat → Nat} {n0 : Nat} {bf : ab_B} : decode (ab_code (zx σ n0 bf).1 21) 141 = .ok (.getfield 39, 3) := zd zm_21 (by decide +kernel)
theorem d_21_144 {σ : Nat → Nat} {n0 : Nat} {bf : ab_B} : decode (ab_code (zx σ n0 bf).1 21) 144 = .ok (.getfield 190, 3) := zd zm_21 (by decide +kernel)
theorem d_21_147 {σ : Nat → Nat} {n0 : Nat} {bf : ab_B} : decode (ab_code (zx σ n0 bf).1 21) 147 = .ok (.iload 4, 2) := zd zm_21 (by decide +kernel)
theorem d_21_149 {σ : Nat → Nat} {n0 : Nat} {bf : ab_B} : decode (ab_code (zx σ n0 bf).1 21) 149 = .ok (.iaload, 1) := zd zm_21 (by decide +kernel)
theorem d_21_150 {σ : Nat → Nat} {n0 : Nat} {bf : ab_B} : decode (ab_code (zx σ n0 bf).1 21) 150 = .ok (.iload 9, 2) := zd zm_21 (by decide +kernel)
theorem d_21_152 {σ : Nat → Nat} {n0 : Nat} {bf : ab_B} : decode (ab_code (zx σ n0 bf).1 21) 152 = .ok (.iadd, 1) := zd zm_21 (by decide +kernel)
theorem d_21_153 {σ : Nat → Nat} {n0 : Nat} {bf : ab_B} : decode (ab_code (zx σ n0 bf).1 21) 153 = .ok (.baload, 1) := zd zm_21 (by decide +kernel)
theorem d_21_154 {σ : Nat → Nat} {n0 : Nat} {bf : ab_B} : decode (ab_code (zx σ n0 bf).1 21) 154 = .ok (.ifCond .eq 7, 3) := zd zm_21 (by decide +kernel)
theorem d_21_157 {σ : Nat → Nat} {n0 : Nat} {bf : ab_B} : decode (ab_code (zx σ n0 bf).1 21) 157 = .ok (.iconst 1, 1) := zd zm_21 (by decide +kernel)
theorem d_21_158 {σ : Nat → Nat} {n0 : Nat} {bf : ab_B} : decode (ab_code (zx σ n0 bf).1 21) 158 = .ok (.goto 4, 3) := zd zm_21 (by decide +kernel)
theorem d_21_161 {σ : Nat → Nat} {n0 : Nat} {bf : ab_B} : decode (ab_code (zx σ n0 bf).1 21) 161 = .ok (.iconst 0, 1) := zd zm_21 (by decide +kernel)
theorem d_21_162 {σ : Nat → Nat} {n0 : Nat} {bf : ab_B} : decode (ab_code (zx σ n0 bf).1 21) 162 = .ok (.iadd, 1) := zd zm_21 (by decide +kernel)
theorem d_21_163 {σ : Nat → Nat} {n0 : Nat} {bf : ab_B} : decode (ab_code (zx σ n0 bf).1 21) 163 = .ok (.istore 8, 2) := zd zm_21 (by decide +kernel)
theorem d_21_165 {σ : Nat → Nat} {n0 : Nat} {bf : ab_B} : decode (ab_code (zx σ n0 bf).1 21) 165 = .ok (.iinc 9 1, 3) := zd zm_21 (by decide +kernel)
theorem d_21_168 {σ : Nat → Nat} {n0 : Nat} {bf : ab_B} : decode (ab_code (zx σ n0 bf).1 21) 168 = .ok (.goto (-44), 3) := zd zm_21 (by decide +kernel)
theorem d_21_171 {σ : Nat → Nat} {n0 : Nat} {bf : ab_B} : decode (ab_code (zx σ n0 bf).1 21) 171 = .ok (.iload 8, 2) := zd zm_21 (by decide +kernel)
theorem d_21_173 {σ : Nat → Nat} {n0 : Nat} {bf : ab_B} : decode (ab_code (zx σ n0 bf).1 21) 173 = .ok (.ireturn, 1) := zd zm_21 (by decide +kernel)
def w_X1_variable_118 (X : zs_X) (d : Nat) (p0 : Nat) (p4 : Int32) (p7 : Int32) (S : zs_T) (Q : zs_Q) : Prop :=
  (zs_U X d 21 124 [(0, .ref p0), (4, .int p4), (7, .int p7), (8, .int (0 : Int32)), (9, .int (0 : Int32))] [] S Q)
theorem u_X1_variable_118 {σ : Nat → Nat} {n0 : Nat} {bf : ab_B} {d : Nat} {p0 : Nat} {p4 : Int32} {p7 : Int32} {S : zs_T} {Q : zs_Q} (hB : zt_B bf) (h : w_X1_variable_118 (zx σ n0 bf) d p0 p4 p7 S Q) : zs_U (zx σ n0 bf) d 21 118 [(0, .ref p0), (4, .int p4), (7, .int p7)] [] S Q := by
  unfold w_X1_variable_118 at h
  refine zu_iconst d_21_118 zi_0 ?_
  refine zu_istore d_21_119 (zs_lt zq_21 rfl) ?_
  refine zu_iconst d_21_121 zi_0 ?_
  refine zu_istore d_21_122 (zs_lt zq_21 rfl) ?_
  exact h.weak ⟨rfl, rfl, rfl, rfl, rfl, trivial⟩
def w_X1_variable_94 (X : zs_X) (d : Nat) (p0 : Nat) (p3 : Int32) (p4 : Int32) (S : zs_T) (Q : zs_Q) : Prop :=
  (zs_K S p0 = some (.inl 0) ∧ ∃ b2, (zs_R S 3 p0) = some b2 ∧ zs_K S b2 = some (.inl 1) ∧ ∃ b5, (zs_R S 1013 b2) = some b5 ∧ zs_A S b5 0 p4 ∧ ∃ b8, (zs_R S 1001 b2) = some b8 ∧ zs_A S b8 3 (((zs_i S b5 p4.toNatClampNeg) + p3) - (2 : Int32)) ∧ Q (.returned (some (.int (((zs_j S b8 (((zs_i S b5 p4.toNatClampNeg) + p3) - (2 : Int32)).toNatClampNeg)).toInt32)))) S)
theorem u_X1_variable_94 {σ : Nat → Nat} {n0 : Nat} {bf : ab_B} {d : Nat} {p0 : Nat} {p3 : Int32} {p4 : Int32} {S : zs_T} {Q : zs_Q} (hB : zt_B bf) (h : w_X1_variable_94 (zx σ n0 bf) d p0 p3 p4 S Q) : zs_U (zx σ n0 bf) d 21 94 [(0, .ref p0), (3, .int p3), (4, .int p4)] [] S Q := by
  unfold w_X1_variable_94 at h
  refine zu_aload_n d_21_94 rfl (zs_ra _) ?_
  obtain ⟨k1, h⟩ := h
  refine zg_0_39 rfl d_21_95 k1 ?_
  obtain ⟨b2, e3, h⟩ := h
  refine zs_stk0 (zs_rfe e3) ?_
  obtain ⟨k4, h⟩ := h
  refine zg_0_215 rfl d_21_98 k4 ?_
  refine zu_aload_n d_21_101 rfl (zs_ra _) ?_
  refine zg_0_39 rfl d_21_102 k1 ?_
  refine zs_stk0 (zs_rfe e3) ?_
  refine zg_0_204 rfl d_21_105 k4 ?_
  refine zu_iload d_21_108 rfl ?_
  obtain ⟨b5, e6, h⟩ := h
  refine zs_stk1 (zs_rfe e6) ?_
  obtain ⟨k7, h⟩ := h
  refine zu_iald (k := 0) d_21_110 rfl rfl k7 ?_
  refine zu_iload_n d_21_111 rfl ?_
  refine zu_stk d_21_112 rfl rfl ?_
  refine zu_iconst d_21_113 zi_2 ?_
  refine zu_stk d_21_114 rfl rfl ?_
  obtain ⟨b8, e9, h⟩ := h
  refine zs_stk1 (zs_rfe e9) ?_
  obtain ⟨k10, h⟩ := h
  refine zu_lald (k := 3) d_21_115 rfl rfl k10 ?_
  refine zu_stk d_21_116 rfl rfl ?_
  exact zu_iret d_21_117 zr_21 rfl h
def w_X1_variable_58 (X : zs_X) (d : Nat) (p0 : Nat) (p3 : Int32) (p4 : Int32) (p5 : Option Nat) (q0 : Int32) (S : zs_T) (Q : zs_Q) : Prop :=
  (zs_C X d 17 [.int q0] S (zs_kV (fun S1 => (zs_K S1 p0 = some (.inl 0) ∧ ∃ b4, (zs_R S1 3 p0) = some b4 ∧ zs_K S1 b4 = some (.inl 1) ∧ ∃ b7, (zs_R S1 1013 b4) = some b7 ∧ zs_A S1 b7 0 p4 ∧ zs_C X d 1028 [.ref b4, va_rf p5, .int (zs_i S1 b7 p4.toNatClampNeg)] S1 (zs_kI (fun v11 S10 => (((¬ p3 = 0 → (((p3 ≤ (1 : Int32) → w_X1_variable_118 X d p0 p4 v11 S10 Q) ∧ (¬ (p3 ≤ (1 : Int32)) → w_X1_variable_94 X d p0 p3 p4 S10 Q)))) ∧ (¬ (¬ p3 = 0) → (Q (.returned (some (.int v11))) S10))))) Q))) Q))
theorem u_X1_variable_58 {σ : Nat → Nat} {n0 : Nat} {bf : ab_B} {d : Nat} {p0 : Nat} {p3 : Int32} {p4 : Int32} {p5 : Option Nat} {q0 : Int32} {S : zs_T} {Q : zs_Q} (hB : zt_B bf) (h : w_X1_variable_58 (zx σ n0 bf) d p0 p3 p4 p5 q0 S Q) : zs_U (zx σ n0 bf) d 21 58 [(0, .ref p0), (3, .int p3), (4, .int p4), (5, va_rf p5)] [.int q0] S Q := by
  unfold w_X1_variable_58 at h
  refine zc_0_163 (x0 := q0) hB rfl d_21_58 (Nat.le_of_ble_eq_true rfl) h (fun S1 h => ?_)
  refine zu_aload_n d_21_61 rfl (zs_ra _) ?_
  obtain ⟨k3, h⟩ := h
  refine zg_0_39 rfl d_21_62 k3 ?_
  refine zu_aload d_21_65 rfl (zs_rr _) ?_
  refine zu_aload_n d_21_67 rfl (zs_ra _) ?_
  refine zg_0_39 rfl d_21_68 k3 ?_
  obtain ⟨b4, e5, h⟩ := h
  refine zs_stk0 (zs_rfe e5) ?_
  obtain ⟨k6, h⟩ := h
  refine zg_0_204 rfl d_21_71 k6 ?_
  refine zu_iload d_21_74 rfl ?_
  obtain ⟨b7, e8, h⟩ := h
  refine zs_stk1 (zs_rfe e8) ?_
  obtain ⟨k9, h⟩ := h
  refine zu_iald (k := 0) d_21_76 rfl rfl k9 ?_
  refine zs_stk2 (zs_rfe e5) ?_
  refine zc_0_207 (x0 := p5) (x1 := (zs_i S1 b7 p4.toNatClampNeg)) hB rfl k6 d_21_77 (Nat.le_of_ble_eq_true rfl) h (fun v11 S10 h => ?_)
  refine zu_istore d_21_80 (zs_lt zq_21 rfl) ?_
  refine zu_iload_n d_21_82 rfl ?_
  refine zu_ifne (t := 89) d_21_83 rfl (fun c12 => ?_) (fun c12 => ?_)
  · have h := h.1 c12
    refine zu_iload_n d_21_89 rfl ?_
    refine zu_iconst d_21_90 zi_1 ?_
    refine zu_cmple (t := 118) d_21_91 rfl (fun c13 => ?_) (fun c13 => ?_)
    · have h := h.1 c13
      exact (u_X1_variable_118 hB h).weak ⟨rfl, rfl, rfl, trivial⟩
    · have h := h.2 c13
      exact (u_X1_variable_94 hB h).weak ⟨rfl, rfl, rfl, trivial⟩
  · have h := h.2 c12
    refine zu_iload d_21_86 rfl ?_
    exact zu_iret d_21_88 zr_21 rfl h
def w_X1_variable_57 (X : zs_X) (d : Nat) (p0 : Nat) (p3 : Int32) (p4 : Int32) (p5 : Option Nat) (S : zs_T) (Q : zs_Q) : Prop :=
  (w_X1_variable_58 X d p0 p3 p4 p5 (0 : Int32) S Q)
theorem u_X1_variable_57 {σ : Nat → Nat} {n0 : Nat} {bf : ab_B} {d : Nat} {p0 : Nat} {p3 : Int32} {p4 : Int32} {p5 : Option Nat} {S : zs_T} {Q : zs_Q} (hB : zt_B bf) (h : w_X1_variable_57 (zx σ n0 bf) d p0 p3 p4 p5 S Q) : zs_U (zx σ n0 bf) d 21 57 [(0, .ref p0), (3, .int p3), (4, .int p4), (5, va_rf p5)] [] S Q := by
  unfold w_X1_variable_57 at h
  refine zu_iconst d_21_57 zi_0 ?_
  exact (u_X1_variable_58 hB h).weak ⟨rfl, rfl, rfl, rfl, trivial⟩
def w_X1_variable_39 (X : zs_X) (d : Nat) (p0 : Nat) (p3 : Int32) (p4 : Int32) (p5 : Option Nat) (q0 : Int32) (S : zs_T) (Q : zs_Q) : Prop :=
  (((p3 < 0 → w_X1_variable_57 X d p0 p3 p4 p5 S Q) ∧ (¬ (p3 < 0) → (((((2 : Int32) + q0) ≤ p3 → w_X1_variable_57 X d p0 p3 p4 p5 S Q) ∧ (¬ (((2 : Int32) + q0) ≤ p3) → (w_X1_variable_58 X d p0 p3 p4 p5 (1 : Int32) S Q)))))))
theorem u_X1_variable_39 {σ : Nat → Nat} {n0 : Nat} {bf : ab_B} {d : Nat} {p0 : Nat} {p3 : Int32} {p4 : Int32} {p5 : Option Nat} {q0 : Int32} {S : zs_T} {Q : zs_Q} (hB : zt_B bf) (h : w_X1_variable_39 (zx σ n0 bf) d p0 p3 p4 p5 q0 S Q) : zs_U (zx σ n0 bf) d 21 39 [(0, .ref p0), (3, .int p3), (4, .int p4), (5, va_rf p5)] [.int q0] S Q := by
  unfold w_X1_variable_39 at h
  refine zu_istore d_21_39 (zs_lt zq_21 rfl) ?_
  refine zs_U.weak (L1 := [(6, .int q0), (0, .ref p0), (3, .int p3), (4, .int p4), (5, va_rf p5)]) ?_ ⟨rfl, zs_gp1 rfl (Or.inl rfl) rfl, zs_gp1 rfl (Or.inl rfl) rfl, zs_gp1 rfl (Or.inl rfl) rfl, zs_gp1 rfl (Or.inl (zs_cat _)) rfl, trivial⟩
  refine zu_iload_n d_21_41 rfl ?_
  refine zu_iflt (t := 57) d_21_42 rfl (fun c1 => ?_) (fun c1 => ?_)
  · have h := h.1 c1
    exact (u_X1_variable_57 hB h).weak ⟨rfl, rfl, rfl, rfl, trivial⟩
  · have h := h.2 c1
    refine zu_iload_n d_21_45 rfl ?_
    refine zu_iconst d_21_46 zi_2 ?_
    refine zu_iload d_21_47 rfl ?_
    refine zu_stk d_21_49 rfl rfl ?_
    refine zu_cmpge (t := 57) d_21_50 rfl (fun c2 => ?_) (fun c2 => ?_)
    · have h := h.1 c2
      exact (u_X1_variable_57 hB h).weak ⟨rfl, rfl, rfl, rfl, trivial⟩
    · have h := h.2 c2
      refine zu_iconst d_21_53 zi_1 ?_
      refine zu_goto (t := 58) d_21_54 rfl ?_
      exact (u_X1_variable_58 hB h).weak ⟨rfl, rfl, rfl, rfl, trivial⟩
def w_X1_variable_162 (X : zs_X) (d : Nat) (p0 : Nat) (p4 : Int32) (p7 : Int32) (p9 : Int32) (q0 : Int32) (q1 : Int32) (S : zs_T) (Q : zs_Q) : Prop :=
  (zs_U X d 21 124 [(0, .ref p0), (4, .int p4), (7, .int p7), (8, .int (q0 + q1)), (9, .int (p9 + (1 : Int32)))] [] S Q)
theorem u_X1_variable_162 {σ : Nat → Nat} {n0 : Nat} {bf : ab_B} {d : Nat} {p0 : Nat} {p4 : Int32} {p7 : Int32} {p9 : Int32} {q0 : Int32} {q1 : Int32} {S : zs_T} {Q : zs_Q} (hB : zt_B bf) (h : w_X1_variable_162 (zx σ n0 bf) d p0 p4 p7 p9 q0 q1 S Q) : zs_U (zx σ n0 bf) d 21 162 [(0, .ref p0), (4, .int p4), (7, .int p7), (9, .int p9)] [.int q1, .int q0] S Q := by
  unfold w_X1_variable_162 at h
  refine zu_stk d_21_162 rfl rfl ?_
  refine zu_istore d_21_163 (zs_lt zq_21 rfl) ?_
  refine zu_iinc d_21_165 rfl zi_1 (zs_lt zq_21 rfl) ?_
  refine zu_goto (t := 124) d_21_168 rfl ?_
  exact h.weak ⟨rfl, rfl, rfl, rfl, rfl, trivial⟩
def w_X1_variable_124 (X : zs_X) (d : Nat) (p0 : Nat) (p4 : Int32) (p7 : Int32) (p8 : Int32) (p9 : Int32) (S : zs_T) (Q : zs_Q) : Prop :=
  (((p7 ≤ p9 → (Q (.returned (some (.int p8))) S)) ∧ (¬ (p7 ≤ p9) → (zs_K S p0 = some (.inl 0) ∧ ∃ b3, (zs_R S 3 p0) = some b3 ∧ zs_K S b3 = some (.inl 1) ∧ ∃ b6, (zs_R S 1012 b3) = some b6 ∧ zs_A S b6 0 p4 ∧ ∃ b9, (zs_R S 1002 b3) = some b9 ∧ zs_A S b9 2 ((zs_i S b6 p4.toNatClampNeg) + p9) ∧ (((zs_i S b9 ((zs_i S b6 p4.toNatClampNeg) + p9).toNatClampNeg) = 0 → (w_X1_variable_162 X d p0 p4 p7 p9 p8 (0 : Int32) S Q)) ∧ (¬ ((zs_i S b9 ((zs_i S b6 p4.toNatClampNeg) + p9).toNatClampNeg) = 0) → (w_X1_variable_162 X d p0 p4 p7 p9 p8 (1 : Int32) S Q)))))))
theorem u_X1_variable_124 {σ : Nat → Nat} {n0 : Nat} {bf : ab_B} {d : Nat} {p0 : Nat} {p4 : Int32} {p7 : Int32} {p8 : Int32} {p9 : Int32} {S : zs_T} {Q : zs_Q} (hB : zt_B bf) (h : w_X1_variable_124 (zx σ n0 bf) d p0 p4 p7 p8 p9 S Q) : zs_U (zx σ n0 bf) d 21 124 [(0, .ref p0), (4, .int p4), (7, .int p7), (8, .int p8), (9, .int p9)] [] S Q := by
  unfold w_X1_variable_124 at h
  refine zu_iload d_21_124 rfl ?_
  refine zu_iload d_21_126 rfl ?_
  refine zu_cmpge (t := 171) d_21_128 rfl (fun c1 => ?_) (fun c1 => ?_)
  · have h := h.1 c1
    refine zu_iload d_21_171 rfl ?_
    exact zu_iret d_21_173 zr_21 rfl h
  · have h := h.2 c1
    refine zu_iload d_21_131 rfl ?_
    refine zu_aload_n d_21_133 rfl (zs_ra _) ?_
    obtain ⟨k2, h⟩ := h
    refine zg_0_39 rfl d_21_134 k2 ?_
    obtain ⟨b3, e4, h⟩ := h
    refine zs_stk0 (zs_rfe e4) ?_
    obtain ⟨k5, h⟩ := h
    refine zg_0_211 rfl d_21_137 k5 ?_
    refine zu_aload_n d_21_140 rfl (zs_ra _) ?_
    refine zg_0_39 rfl d_21_141 k2 ?_
    refine zs_stk0 (zs_rfe e4) ?_
    refine zg_0_190 rfl d_21_144 k5 ?_
    refine zu_iload d_21_147 rfl ?_
    obtain ⟨b6, e7, h⟩ := h
    refine zs_stk1 (zs_rfe e7) ?_
    obtain ⟨k8, h⟩ := h
    refine zu_iald (k := 0) d_21_149 rfl rfl k8 ?_
    refine zu_iload d_21_150 rfl ?_
    refine zu_stk d_21_152 rfl rfl ?_
    obtain ⟨b9, e10, h⟩ := h
    refine zs_stk1 (zs_rfe e10) ?_
    obtain ⟨k11, h⟩ := h
    refine zu_bald (k := 2) d_21_153 rfl (Or.inr rfl) k11 ?_
    refine zu_ifeq (t := 161) d_21_154 rfl (fun c12 => ?_) (fun c12 => ?_)
    · have h := h.1 c12
      refine zu_iconst d_21_161 zi_0 ?_
      exact (u_X1_variable_162 hB h).weak ⟨rfl, rfl, rfl, rfl, trivial⟩
    · have h := h.2 c12
      refine zu_iconst d_21_157 zi_1 ?_
      refine zu_goto (t := 162) d_21_158 rfl ?_
      exact (u_X1_variable_162 hB h).weak ⟨rfl, rfl, rfl, rfl, trivial⟩
def w_X1_variable (X : zs_X) (d : Nat) (p0 : Nat) (p1 : Int32) (p2 : Int32) (p3 : Int32) (S : zs_T) (Q : zs_Q) : Prop :=
  (zs_K S p0 = some (.inl 0) ∧ zs_C X d 19 [.ref p0, .int p1, .int p2] S (zs_kI (fun v3 S2 => (zs_K S2 p0 = some (.inl 0) ∧ zs_C X d 20 [.ref p0, .int p1, .int p2] S2 (zs_kR (fun v6 S5 => (∃ b7, v6 = some b7 ∧ zs_K S5 b7 = some (.inl 6) ∧ zs_C X d 6004 [.ref b7] S5 (zs_kI (fun v11 S10 => (((v11 = 0 → (w_X1_variable_39 X d p0 p3 v3 v6 (0 : Int32) S10 Q)) ∧ (¬ (v11 = 0) → (zs_K S10 b7 = some (.inl 6) ∧ zs_C X d 6005 [.ref b7] S10 (zs_kR (fun v15 S14 => (∃ b16, v15 = some b16 ∧ zs_K S14 b16 = some (.inl 6) ∧ ∃ b19, (zs_R S14 6007 b16) = some b19 ∧ zs_K S14 b19 = some (.inl 16) ∧ zs_C X d 16001 [.ref b19] S14 (zs_kI (fun v23 S22 => (w_X1_variable_39 X d p0 p3 v3 v6 v23 S22 Q)) Q))) Q)))))) Q))) Q))) Q))
theorem u_X1_variable {σ : Nat → Nat} {n0 : Nat} {bf : ab_B} {d : Nat} {p0 : Nat} {p1 : Int32} {p2 : Int32} {p3 : Int32} {S : zs_T} {Q : zs_Q} (hB : zt_B bf) (hd : 1 ≤ d) (h : w_X1_variable (zx σ n0 bf) (d - 1) p0 p1 p2 p3 S Q) : zs_C (zx σ n0 bf) d 21 [.ref p0, .int p1, .int p2, .int p3] S Q := by
  have hL : lv_args 0 [.ref p0, .int p1, .int p2, .int p3] = [(0, .ref p0), (1, .int p1), (2, .int p2), (3, .int p3)] := rfl
  refine zs_C.of1 (hB.2 21 (by decide) (by decide)) hd (by rw [hL]; exact zs_sub_self _ (by exact ⟨rfl, rfl, rfl, rfl, trivial⟩)) ?_
  rw [hL]
  clear hL
  unfold w_X1_variable at h
  refine zu_aload_n d_21_0 rfl (zs_ra _) ?_
  refine zu_iload_n d_21_1 rfl ?_
  refine zu_iload_n d_21_2 rfl ?_
  obtain ⟨k1, h⟩ := h
  refine zc_0_197 (x0 := p1) (x1 := p2) hB rfl k1 d_21_3 (Nat.le_of_ble_eq_true rfl) h (fun v3 S2 h => ?_)
  refine zu_istore d_21_6 (zs_lt zq_21 rfl) ?_
  refine zu_aload_n d_21_8 rfl (zs_ra _) ?_
  refine zu_iload_n d_21_9 rfl ?_
  refine zu_iload_n d_21_10 rfl ?_
  obtain ⟨k4, h⟩ := h
  refine zc_0_201 (x0 := p1) (x1 := p2) hB rfl k4 d_21_11 (Nat.le_of_ble_eq_true rfl) h (fun v6 S5 h => ?_)
  refine zu_astore d_21_14 (zs_rr _) (zs_lt zq_21 rfl) ?_
  refine zu_aload d_21_16 rfl (zs_rr _) ?_
  obtain ⟨b7, e8, h⟩ := h
  refine zs_stk0 (zs_rfe e8) ?_
  obtain ⟨k9, h⟩ := h
  refine zc_0_218  hB rfl k9 d_21_18 (Nat.le_of_ble_eq_true rfl) h (fun v11 S10 h => ?_)
  refine zu_ifeq (t := 38) d_21_21 rfl (fun c12 => ?_) (fun c12 => ?_)
  · have h := h.1 c12
    refine zu_iconst d_21_38 zi_0 ?_
    exact (u_X1_variable_39 hB h).weak ⟨rfl, rfl, rfl, rfl, trivial⟩
  · have h := h.2 c12
    refine zu_aload d_21_24 rfl (zs_rr _) ?_
    refine zs_stk0 (zs_rfe e8) ?_
    obtain ⟨k13, h⟩ := h
    refine zc_0_224  hB rfl k13 d_21_26 (Nat.le_of_ble_eq_true rfl) h (fun v15 S14 h => ?_)
    obtain ⟨b16, e17, h⟩ := h
    refine zs_stk0 (zs_rfe e17) ?_
    obtain ⟨k18, h⟩ := h
    refine zg_0_228 rfl d_21_29 k18 ?_
    obtain ⟨b19, e20, h⟩ := h
    refine zs_stk0 (zs_rfe e20) ?_
    obtain ⟨k21, h⟩ := h
    refine zc_0_158  hB rfl k21 d_21_32 (Nat.le_of_ble_eq_true rfl) h (fun v23 S22 h => ?_)
    refine zu_goto (t := 39) d_21_35 rfl ?_
    exact (u_X1_variable_39 hB h).weak ⟨rfl, rfl, rfl, rfl, trivial⟩
/-! SchemaPascal.thing(II)I -/
theorem zm_22 {σ : Nat → Nat} {n0 : Nat} {bf : ab_B} : ab_code (zx σ n0 bf).1 22 = prog_1_method_24_code := rfl
theorem zq_22 {σ : Nat → Nat} {n0 : Nat} {bf : ab_B} : ab_maxL (zx σ n0 bf).1 22 = 5 := rfl
theorem zr_22 {σ : Nat → Nat} {n0 : Nat} {bf : ab_B} : ab_ret (zx σ n0 bf).1 22 = (Option.some Jvm.ClassFile.FieldType.int) := rfl
theorem d_22_0 {σ : Nat → Nat} {n0 : Nat} {bf : ab_B} : decode (ab_code (zx σ n0 bf).1 22) 0 = .ok (.aload_n 0, 1) := zd zm_22 (by decide +kernel)
theorem d_22_1 {σ : Nat → Nat} {n0 : Nat} {bf : ab_B} : decode (ab_code (zx σ n0 bf).1 22) 1 = .ok (.iload_n 1, 1) := zd zm_22 (by decide +kernel)
theorem d_22_2 {σ : Nat → Nat} {n0 : Nat} {bf : ab_B} : decode (ab_code (zx σ n0 bf).1 22) 2 = .ok (.invokevirtual 234, 3) := zd zm_22 (by decide +kernel)
theorem d_22_5 {σ : Nat → Nat} {n0 : Nat} {bf : ab_B} : decode (ab_code (zx σ n0 bf).1 22) 5 = .ok (.aload_n 0, 1) := zd zm_22 (by decide +kernel)
theorem d_22_6 {σ : Nat → Nat} {n0 : Nat} {bf : ab_B} : decode (ab_code (zx σ n0 bf).1 22) 6 = .ok (.getfield 39, 3) := zd zm_22 (by decide +kernel)
theorem d_22_9 {σ : Nat → Nat} {n0 : Nat} {bf : ab_B} : decode (ab_code (zx σ n0 bf).1 22) 9 = .ok (.getfield 237, 3) := zd zm_22 (by decide +kernel)
theorem d_22_12 {σ : Nat → Nat} {n0 : Nat} {bf : ab_B} : decode (ab_code (zx σ n0 bf).1 22) 12 = .ok (.iload_n 1, 1) := zd zm_22 (by decide +kernel)
theorem d_22_13 {σ : Nat → Nat} {n0 : Nat} {bf : ab_B} : decode (ab_code (zx σ n0 bf).1 22) 13 = .ok (.aaload, 1) := zd zm_22 (by decide +kernel)
theorem d_22_14 {σ : Nat → Nat} {n0 : Nat} {bf : ab_B} : decode (ab_code (zx σ n0 bf).1 22) 14 = .ok (.astore_n 3, 1) := zd zm_22 (by decide +kernel)
theorem d_22_15 {σ : Nat → Nat} {n0 : Nat} {bf : ab_B} : decode (ab_code (zx σ n0 bf).1 22) 15 = .ok (.aload_n 3, 1) := zd zm_22 (by decide +kernel)
theorem d_22_16 {σ : Nat → Nat} {n0 : Nat} {bf : ab_B} : decode (ab_code (zx σ n0 bf).1 22) 16 = .ok (.invokevirtual 218, 3) := zd zm_22 (by decide +kernel)
theorem d_22_19 {σ : Nat → Nat} {n0 : Nat} {bf : ab_B} : decode (ab_code (zx σ n0 bf).1 22) 19 = .ok (.ifCond .eq 16, 3) := zd zm_22 (by decide +kernel)
theorem d_22_22 {σ : Nat → Nat} {n0 : Nat} {bf : ab_B} : decode (ab_code (zx σ n0 bf).1 22) 22 = .ok (.aload_n 3, 1) := zd zm_22 (by decide +kernel)
theorem d_22_23 {σ : Nat → Nat} {n0 : Nat} {bf : ab_B} : decode (ab_code (zx σ n0 bf).1 22) 23 = .ok (.invokevirtual 224, 3) := zd zm_22 (by decide +kernel)
theorem d_22_26 {σ : Nat → Nat} {n0 : Nat} {bf : ab_B} : decode (ab_code (zx σ n0 bf).1 22) 26 = .ok (.getfield 228, 3) := zd zm_22 (by decide +kernel)
theorem d_22_29 {σ : Nat → Nat} {n0 : Nat} {bf : ab_B} : decode (ab_code (zx σ n0 bf).1 22) 29 = .ok (.invokevirtual 158, 3) := zd zm_22 (by decide +kernel)
theorem d_22_32 {σ : Nat → Nat} {n0 : Nat} {bf : ab_B} : decode (ab_code (zx σ n0 bf).1 22) 32 = .ok (.goto 4, 3) := zd zm_22 (by decide +kernel)
theorem d_22_35 {σ : Nat → Nat} {n0 : Nat} {bf : ab_B} : decode (ab_code (zx σ n0 bf).1 22) 35 = .ok (.iconst 0, 1) := zd zm_22 (by decide +kernel)
theorem d_22_36 {σ : Nat → Nat} {n0 : Nat} {bf : ab_B} : decode (ab_code (zx σ n0 bf).1 22) 36 = .ok (.istore 4, 2) := zd zm_22 (by decide +kernel)
theorem d_22_38 {σ : Nat → Nat} {n0 : Nat} {bf : ab_B} : decode (ab_code (zx σ n0 bf).1 22) 38 = .ok (.iload_n 2, 1) := zd zm_22 (by decide +kernel)
theorem d_22_39 {σ : Nat → Nat} {n0 : Nat} {bf : ab_B} : decode (ab_code (zx σ n0 bf).1 22) 39 = .ok (.ifCond .lt 15, 3) := zd zm_22 (by decide +kernel)
theorem d_22_42 {σ : Nat → Nat} {n0 : Nat} {bf : ab_B} : decode (ab_code (zx σ n0 bf).1 22) 42 = .ok (.iload_n 2, 1) := zd zm_22 (by decide +kernel)
theorem d_22_43 {σ : Nat → Nat} {n0 : Nat} {bf : ab_B} : decode (ab_code (zx σ n0 bf).1 22) 43 = .ok (.iconst 2, 1) := zd zm_22 (by decide +kernel)
theorem d_22_44 {σ : Nat → Nat} {n0 : Nat} {bf : ab_B} : decode (ab_code (zx σ n0 bf).1 22) 44 = .ok (.iload 4, 2) := zd zm_22 (by decide +kernel)
theorem d_22_46 {σ : Nat → Nat} {n0 : Nat} {bf : ab_B} : decode (ab_code (zx σ n0 bf).1 22) 46 = .ok (.iadd, 1) := zd zm_22 (by decide +kernel)
theorem d_22_47 {σ : Nat → Nat} {n0 : Nat} {bf : ab_B} : decode (ab_code (zx σ n0 bf).1 22) 47 = .ok (.if_icmp .ge 7, 3) := zd zm_22 (by decide +kernel)
theorem d_22_50 {σ : Nat → Nat} {n0 : Nat} {bf : ab_B} : decode (ab_code (zx σ n0 bf).1 22) 50 = .ok (.iconst 1, 1) := zd zm_22 (by decide +kernel)
theorem d_22_51 {σ : Nat → Nat} {n0 : Nat} {bf : ab_B} : decode (ab_code (zx σ n0 bf).1 22) 51 = .ok (.goto 4, 3) := zd zm_22 (by decide +kernel)
theorem d_22_54 {σ : Nat → Nat} {n0 : Nat} {bf : ab_B} : decode (ab_code (zx σ n0 bf).1 22) 54 = .ok (.iconst 0, 1) := zd zm_22 (by decide +kernel)
theorem d_22_55 {σ : Nat → Nat} {n0 : Nat} {bf : ab_B} : decode (ab_code (zx σ n0 bf).1 22) 55 = .ok (.invokestatic 163, 3) := zd zm_22 (by decide +kernel)
theorem d_22_58 {σ : Nat → Nat} {n0 : Nat} {bf : ab_B} : decode (ab_code (zx σ n0 bf).1 22) 58 = .ok (.iload_n 2, 1) := zd zm_22 (by decide +kernel)
theorem d_22_59 {σ : Nat → Nat} {n0 : Nat} {bf : ab_B} : decode (ab_code (zx σ n0 bf).1 22) 59 = .ok (.ifCond .ne 23, 3) := zd zm_22 (by decide +kernel)
theorem d_22_62 {σ : Nat → Nat} {n0 : Nat} {bf : ab_B} : decode (ab_code (zx σ n0 bf).1 22) 62 = .ok (.aload_n 0, 1) := zd zm_22 (by decide +kernel)
theorem d_22_63 {σ : Nat → Nat} {n0 : Nat} {bf : ab_B} : decode (ab_code (zx σ n0 bf).1 22) 63 = .ok (.getfield 39, 3) := zd zm_22 (by decide +kernel)
theorem d_22_66 {σ : Nat → Nat} {n0 : Nat} {bf : ab_B} : decode (ab_code (zx σ n0 bf).1 22) 66 = .ok (.getfield 241, 3) := zd zm_22 (by decide +kernel)
theorem d_22_69 {σ : Nat → Nat} {n0 : Nat} {bf : ab_B} : decode (ab_code (zx σ n0 bf).1 22) 69 = .ok (.iload_n 1, 1) := zd zm_22 (by decide +kernel)
theorem d_22_70 {σ : Nat → Nat} {n0 : Nat} {bf : ab_B} : decode (ab_code (zx σ n0 bf).1 22) 70 = .ok (.baload, 1) := zd zm_22 (by decide +kernel)
theorem d_22_71 {σ : Nat → Nat} {n0 : Nat} {bf : ab_B} : decode (ab_code (zx σ n0 bf).1 22) 71 = .ok (.ifCond .eq 7, 3) := zd zm_22 (by decide +kernel)
theorem d_22_74 {σ : Nat → Nat} {n0 : Nat} {bf : ab_B} : decode (ab_code (zx σ n0 bf).1 22) 74 = .ok (.iconst 1, 1) := zd zm_22 (by decide +kernel)
theorem d_22_75 {σ : Nat → Nat} {n0 : Nat} {bf : ab_B} : decode (ab_code (zx σ n0 bf).1 22) 75 = .ok (.goto 65, 3) := zd zm_22 (by decide +kernel)
theorem d_22_78 {σ : Nat → Nat} {n0 : Nat} {bf : ab_B} : decode (ab_code (zx σ n0 bf).1 22) 78 = .ok (.iconst 0, 1) := zd zm_22 (by decide +kernel)
theorem d_22_79 {σ : Nat → Nat} {n0 : Nat} {bf : ab_B} : decode (ab_code (zx σ n0 bf).1 22) 79 = .ok (.goto 61, 3) := zd zm_22 (by decide +kernel)
theorem d_22_82 {σ : Nat → Nat} {n0 : Nat} {bf : ab_B} : decode (ab_code (zx σ n0 bf).1 22) 82 = .ok (.iload_n 2, 1) := zd zm_22 (by decide +kernel)
theorem d_22_83 {σ : Nat → Nat} {n0 : Nat} {bf : ab_B} : decode (ab_code (zx σ n0 bf).1 22) 83 = .ok (.iconst 1, 1) := zd zm_22 (by decide +kernel)
theorem d_22_84 {σ : Nat → Nat} {n0 : Nat} {bf : ab_B} : decode (ab_code (zx σ n0 bf).1 22) 84 = .ok (.if_icmp .ne 31, 3) := zd zm_22 (by decide +kernel)
theorem d_22_87 {σ : Nat → Nat} {n0 : Nat} {bf : ab_B} : decode (ab_code (zx σ n0 bf).1 22) 87 = .ok (.aload_n 0, 1) := zd zm_22 (by decide +kernel)
theorem d_22_88 {σ : Nat → Nat} {n0 : Nat} {bf : ab_B} : decode (ab_code (zx σ n0 bf).1 22) 88 = .ok (.getfield 39, 3) := zd zm_22 (by decide +kernel)
theorem d_22_91 {σ : Nat → Nat} {n0 : Nat} {bf : ab_B} : decode (ab_code (zx σ n0 bf).1 22) 91 = .ok (.getfield 241, 3) := zd zm_22 (by decide +kernel)
theorem d_22_94 {σ : Nat → Nat} {n0 : Nat} {bf : ab_B} : decode (ab_code (zx σ n0 bf).1 22) 94 = .ok (.iload_n 1, 1) := zd zm_22 (by decide +kernel)
theorem d_22_95 {σ : Nat → Nat} {n0 : Nat} {bf : ab_B} : decode (ab_code (zx σ n0 bf).1 22) 95 = .ok (.baload, 1) := zd zm_22 (by decide +kernel)
theorem d_22_96 {σ : Nat → Nat} {n0 : Nat} {bf : ab_B} : decode (ab_code (zx σ n0 bf).1 22) 96 = .ok (.ifCond .eq 15, 3) := zd zm_22 (by decide +kernel)
theorem d_22_99 {σ : Nat → Nat} {n0 : Nat} {bf : ab_B} : decode (ab_code (zx σ n0 bf).1 22) 99 = .ok (.aload_n 0, 1) := zd zm_22 (by decide +kernel)
theorem d_22_100 {σ : Nat → Nat} {n0 : Nat} {bf : ab_B} : decode (ab_code (zx σ n0 bf).1 22) 100 = .ok (.getfield 39, 3) := zd zm_22 (by decide +kernel)
theorem d_22_103 {σ : Nat → Nat} {n0 : Nat} {bf : ab_B} : decode (ab_code (zx σ n0 bf).1 22) 103 = .ok (.getfield 244, 3) := zd zm_22 (by decide +kernel)
theorem d_22_106 {σ : Nat → Nat} {n0 : Nat} {bf : ab_B} : decode (ab_code (zx σ n0 bf).1 22) 106 = .ok (.iload_n 1, 1) := zd zm_22 (by decide +kernel)
theorem d_22_107 {σ : Nat → Nat} {n0 : Nat} {bf : ab_B} : decode (ab_code (zx σ n0 bf).1 22) 107 = .ok (.iaload, 1) := zd zm_22 (by decide +kernel)
theorem d_22_108 {σ : Nat → Nat} {n0 : Nat} {bf : ab_B} : decode (ab_code (zx σ n0 bf).1 22) 108 = .ok (.goto 32, 3) := zd zm_22 (by decide +kernel)
theorem d_22_111 {σ : Nat → Nat} {n0 : Nat} {bf : ab_B} : decode (ab_code (zx σ n0 bf).1 22) 111 = .ok (.iconst 0, 1) := zd zm_22 (by decide +kernel)
theorem d_22_112 {σ : Nat → Nat} {n0 : Nat} {bf : ab_B} : decode (ab_code (zx σ n0 bf).1 22) 112 = .ok (.goto 28, 3) := zd zm_22 (by decide +kernel)
theorem d_22_115 {σ : Nat → Nat} {n0 : Nat} {bf : ab_B} : decode (ab_code (zx σ n0 bf).1 22) 115 = .ok (.aload_n 0, 1) := zd zm_22 (by decide +kernel)
theorem d_22_116 {σ : Nat → Nat} {n0 : Nat} {bf : ab_B} : decode (ab_code (zx σ n0 bf).1 22) 116 = .ok (.getfield 39, 3) := zd zm_22 (by decide +kernel)
theorem d_22_119 {σ : Nat → Nat} {n0 : Nat} {bf : ab_B} : decode (ab_code (zx σ n0 bf).1 22) 119 = .ok (.getfield 215, 3) := zd zm_22 (by decide +kernel)
theorem d_22_122 {σ : Nat → Nat} {n0 : Nat} {bf : ab_B} : decode (ab_code (zx σ n0 bf).1 22) 122 = .ok (.aload_n 0, 1) := zd zm_22 (by decide +kernel)
theorem d_22_123 {σ : Nat → Nat} {n0 : Nat} {bf : ab_B} : decode (ab_code (zx σ n0 bf).1 22) 123 = .ok (.getfield 39, 3) := zd zm_22 (by decide +kernel)
theorem d_22_126 {σ : Nat → Nat} {n0 : Nat} {bf : ab_B} : decode (ab_code (zx σ n0 bf).1 22) 126 = .ok (.getfield 247, 3) := zd zm_22 (by decide +kernel)
theorem d_22_129 {σ : Nat → Nat} {n0 : Nat} {bf : ab_B} : decode (ab_code (zx σ n0 bf).1 22) 129 = .ok (.iload_n 1, 1) := zd zm_22 (by decide +kernel)
theorem d_22_130 {σ : Nat → Nat} {n0 : Nat} {bf : ab_B} : decode (ab_code (zx σ n0 bf).1 22) 130 = .ok (.iaload, 1) := zd zm_22 (by decide +kernel)
theorem d_22_131 {σ : Nat → Nat} {n0 : Nat} {bf : ab_B} : decode (ab_code (zx σ n0 bf).1 22) 131 = .ok (.iload 4, 2) := zd zm_22 (by decide +kernel)
theorem d_22_133 {σ : Nat → Nat} {n0 : Nat} {bf : ab_B} : decode (ab_code (zx σ n0 bf).1 22) 133 = .ok (.isub, 1) := zd zm_22 (by decide +kernel)
theorem d_22_134 {σ : Nat → Nat} {n0 : Nat} {bf : ab_B} : decode (ab_code (zx σ n0 bf).1 22) 134 = .ok (.iload_n 2, 1) := zd zm_22 (by decide +kernel)
theorem d_22_135 {σ : Nat → Nat} {n0 : Nat} {bf : ab_B} : decode (ab_code (zx σ n0 bf).1 22) 135 = .ok (.iadd, 1) := zd zm_22 (by decide +kernel)
theorem d_22_136 {σ : Nat → Nat} {n0 : Nat} {bf : ab_B} : decode (ab_code (zx σ n0 bf).1 22) 136 = .ok (.iconst 2, 1) := zd zm_22 (by decide +kernel)
theorem d_22_137 {σ : Nat → Nat} {n0 : Nat} {bf : ab_B} : decode (ab_code (zx σ n0 bf).1 22) 137 = .ok (.isub, 1) := zd zm_22 (by decide +kernel)
theorem d_22_138 {σ : Nat → Nat} {n0 : Nat} {bf : ab_B} : decode (ab_code (zx σ n0 bf).1 22) 138 = .ok (.laload, 1) := zd zm_22 (by decide +kernel)
theorem d_22_139 {σ : Nat → Nat} {n0 : Nat} {bf : ab_B} : decode (ab_code (zx σ n0 bf).1 22) 139 = .ok (.l2i, 1) := zd zm_22 (by decide +kernel)
theorem d_22_140 {σ : Nat → Nat} {n0 : Nat} {bf : ab_B} : decode (ab_code (zx σ n0 bf).1 22) 140 = .ok (.ireturn, 1) := zd zm_22 (by decide +kernel)
def w_X1_thing_55 (X : zs_X) (d : Nat) (p0 : Nat) (p1 : Int32) (p2 : Int32) (p4 : Int32) (q0 : Int32) (S : zs_T) (Q : zs_Q) : Prop :=
  (zs_C X d 17 [.int q0] S (zs_kV (fun S1 => (((¬ p2 = 0 → (((¬ p2 = (1 : Int32) → (zs_K S1 p0 = some (.inl 0) ∧ ∃ b6, (zs_R S1 3 p0) = some b6 ∧ zs_K S1 b6 = some (.inl 1) ∧ ∃ b9, (zs_R S1 1026 b6) = some b9 ∧ zs_A S1 b9 0 p1 ∧ ∃ b12, (zs_R S1 1001 b6) = some b12 ∧ zs_A S1 b12 3 ((((zs_i S1 b9 p1.toNatClampNeg) - p4) + p2) - (2 : Int32)) ∧ Q (.returned (some (.int (((zs_j S1 b12 ((((zs_i S1 b9 p1.toNatClampNeg) - p4) + p2) - (2 : Int32)).toNatClampNeg)).toInt32)))) S1)) ∧ (¬ (¬ p2 = (1 : Int32)) → (zs_K S1 p0 = some (.inl 0) ∧ ∃ b16, (zs_R S1 3 p0) = some b16 ∧ zs_K S1 b16 = some (.inl 1) ∧ ∃ b19, (zs_R S1 1028 b16) = some b19 ∧ zs_A S1 b19 2 p1 ∧ (((zs_i S1 b19 p1.toNatClampNeg) = 0 → (Q (.returned (some (.int (0 : Int32)))) S1)) ∧ (¬ ((zs_i S1 b19 p1.toNatClampNeg) = 0) → (∃ b23, (zs_R S1 1027 b16) = some b23 ∧ zs_A S1 b23 0 p1 ∧ Q (.returned (some (.int (zs_i S1 b23 p1.toNatClampNeg)))) S1)))))))) ∧ (¬ (¬ p2 = 0) → (zs_K S1 p0 = some (.inl 0) ∧ ∃ b27, (zs_R S1 3 p0) = some b27 ∧ zs_K S1 b27 = some (.inl 1) ∧ ∃ b30, (zs_R S1 1028 b27) = some b30 ∧ zs_A S1 b30 2 p1 ∧ (((zs_i S1 b30 p1.toNatClampNeg) = 0 → (Q (.returned (some (.int (0 : Int32)))) S1)) ∧ (¬ ((zs_i S1 b30 p1.toNatClampNeg) = 0) → (Q (.returned (some (.int (1 : Int32)))) S1)))))))) Q))
theorem u_X1_thing_55 {σ : Nat → Nat} {n0 : Nat} {bf : ab_B} {d : Nat} {p0 : Nat} {p1 : Int32} {p2 : Int32} {p4 : Int32} {q0 : Int32} {S : zs_T} {Q : zs_Q} (hB : zt_B bf) (h : w_X1_thing_55 (zx σ n0 bf) d p0 p1 p2 p4 q0 S Q) : zs_U (zx σ n0 bf) d 22 55 [(0, .ref p0), (1, .int p1), (2, .int p2), (4, .int p4)] [.int q0] S Q := by
  unfold w_X1_thing_55 at h
  refine zc_0_163 (x0 := q0) hB rfl d_22_55 (Nat.le_of_ble_eq_true rfl) h (fun S1 h => ?_)
  refine zu_iload_n d_22_58 rfl ?_
  refine zu_ifne (t := 82) d_22_59 rfl (fun c3 => ?_) (fun c3 => ?_)
  · have h := h.1 c3
    refine zu_iload_n d_22_82 rfl ?_
    refine zu_iconst d_22_83 zi_1 ?_
    refine zu_cmpne (t := 115) d_22_84 rfl (fun c4 => ?_) (fun c4 => ?_)
    · have h := h.1 c4
      refine zu_aload_n d_22_115 rfl (zs_ra _) ?_
      obtain ⟨k5, h⟩ := h
      refine zg_0_39 rfl d_22_116 k5 ?_
      obtain ⟨b6, e7, h⟩ := h
      refine zs_stk0 (zs_rfe e7) ?_
      obtain ⟨k8, h⟩ := h
      refine zg_0_215 rfl d_22_119 k8 ?_
      refine zu_aload_n d_22_122 rfl (zs_ra _) ?_
      refine zg_0_39 rfl d_22_123 k5 ?_
      refine zs_stk0 (zs_rfe e7) ?_
      refine zg_0_247 rfl d_22_126 k8 ?_
      refine zu_iload_n d_22_129 rfl ?_
      obtain ⟨b9, e10, h⟩ := h
      refine zs_stk1 (zs_rfe e10) ?_
      obtain ⟨k11, h⟩ := h
      refine zu_iald (k := 0) d_22_130 rfl rfl k11 ?_
      refine zu_iload d_22_131 rfl ?_
      refine zu_stk d_22_133 rfl rfl ?_
      refine zu_iload_n d_22_134 rfl ?_
      refine zu_stk d_22_135 rfl rfl ?_
      refine zu_iconst d_22_136 zi_2 ?_
      refine zu_stk d_22_137 rfl rfl ?_
      obtain ⟨b12, e13, h⟩ := h
      refine zs_stk1 (zs_rfe e13) ?_
      obtain ⟨k14, h⟩ := h
      refine zu_lald (k := 3) d_22_138 rfl rfl k14 ?_
      refine zu_stk d_22_139 rfl rfl ?_
      exact zu_iret d_22_140 zr_22 rfl h
    · have h := h.2 c4
      refine zu_aload_n d_22_87 rfl (zs_ra _) ?_
      obtain ⟨k15, h⟩ := h
      refine zg_0_39 rfl d_22_88 k15 ?_
      obtain ⟨b16, e17, h⟩ := h
      refine zs_stk0 (zs_rfe e17) ?_
      obtain ⟨k18, h⟩ := h
      refine zg_0_241 rfl d_22_91 k18 ?_
      refine zu_iload_n d_22_94 rfl ?_
      obtain ⟨b19, e20, h⟩ := h
      refine zs_stk1 (zs_rfe e20) ?_
      obtain ⟨k21, h⟩ := h
      refine zu_bald (k := 2) d_22_95 rfl (Or.inr rfl) k21 ?_
      refine zu_ifeq (t := 111) d_22_96 rfl (fun c22 => ?_) (fun c22 => ?_)
      · have h := h.1 c22
        refine zu_iconst d_22_111 zi_0 ?_
        refine zu_goto (t := 140) d_22_112 rfl ?_
        exact zu_iret d_22_140 zr_22 rfl h
      · have h := h.2 c22
        refine zu_aload_n d_22_99 rfl (zs_ra _) ?_
        refine zg_0_39 rfl d_22_100 k15 ?_
        refine zs_stk0 (zs_rfe e17) ?_
        refine zg_0_244 rfl d_22_103 k18 ?_
        refine zu_iload_n d_22_106 rfl ?_
        obtain ⟨b23, e24, h⟩ := h
        refine zs_stk1 (zs_rfe e24) ?_
        obtain ⟨k25, h⟩ := h
        refine zu_iald (k := 0) d_22_107 rfl rfl k25 ?_
        refine zu_goto (t := 140) d_22_108 rfl ?_
        exact zu_iret d_22_140 zr_22 rfl h
  · have h := h.2 c3
    refine zu_aload_n d_22_62 rfl (zs_ra _) ?_
    obtain ⟨k26, h⟩ := h
    refine zg_0_39 rfl d_22_63 k26 ?_
    obtain ⟨b27, e28, h⟩ := h
    refine zs_stk0 (zs_rfe e28) ?_
    obtain ⟨k29, h⟩ := h
    refine zg_0_241 rfl d_22_66 k29 ?_
    refine zu_iload_n d_22_69 rfl ?_
    obtain ⟨b30, e31, h⟩ := h
    refine zs_stk1 (zs_rfe e31) ?_
    obtain ⟨k32, h⟩ := h
    refine zu_bald (k := 2) d_22_70 rfl (Or.inr rfl) k32 ?_
    refine zu_ifeq (t := 78) d_22_71 rfl (fun c33 => ?_) (fun c33 => ?_)
    · have h := h.1 c33
      refine zu_iconst d_22_78 zi_0 ?_
      refine zu_goto (t := 140) d_22_79 rfl ?_
      exact zu_iret d_22_140 zr_22 rfl h
    · have h := h.2 c33
      refine zu_iconst d_22_74 zi_1 ?_
      refine zu_goto (t := 140) d_22_75 rfl ?_
      exact zu_iret d_22_140 zr_22 rfl h
def w_X1_thing_54 (X : zs_X) (d : Nat) (p0 : Nat) (p1 : Int32) (p2 : Int32) (p4 : Int32) (S : zs_T) (Q : zs_Q) : Prop :=
  (w_X1_thing_55 X d p0 p1 p2 p4 (0 : Int32) S Q)
theorem u_X1_thing_54 {σ : Nat → Nat} {n0 : Nat} {bf : ab_B} {d : Nat} {p0 : Nat} {p1 : Int32} {p2 : Int32} {p4 : Int32} {S : zs_T} {Q : zs_Q} (hB : zt_B bf) (h : w_X1_thing_54 (zx σ n0 bf) d p0 p1 p2 p4 S Q) : zs_U (zx σ n0 bf) d 22 54 [(0, .ref p0), (1, .int p1), (2, .int p2), (4, .int p4)] [] S Q := by
  unfold w_X1_thing_54 at h
  refine zu_iconst d_22_54 zi_0 ?_
  exact (u_X1_thing_55 hB h).weak ⟨rfl, rfl, rfl, rfl, trivial⟩
def w_X1_thing_36 (X : zs_X) (d : Nat) (p0 : Nat) (p1 : Int32) (p2 : Int32) (q0 : Int32) (S : zs_T) (Q : zs_Q) : Prop :=
  (((p2 < 0 → w_X1_thing_54 X d p0 p1 p2 q0 S Q) ∧ (¬ (p2 < 0) → (((((2 : Int32) + q0) ≤ p2 → w_X1_thing_54 X d p0 p1 p2 q0 S Q) ∧ (¬ (((2 : Int32) + q0) ≤ p2) → (w_X1_thing_55 X d p0 p1 p2 q0 (1 : Int32) S Q)))))))
theorem u_X1_thing_36 {σ : Nat → Nat} {n0 : Nat} {bf : ab_B} {d : Nat} {p0 : Nat} {p1 : Int32} {p2 : Int32} {q0 : Int32} {S : zs_T} {Q : zs_Q} (hB : zt_B bf) (h : w_X1_thing_36 (zx σ n0 bf) d p0 p1 p2 q0 S Q) : zs_U (zx σ n0 bf) d 22 36 [(0, .ref p0), (1, .int p1), (2, .int p2)] [.int q0] S Q := by
  unfold w_X1_thing_36 at h
  refine zu_istore d_22_36 (zs_lt zq_22 rfl) ?_
  refine zu_iload_n d_22_38 rfl ?_
  refine zu_iflt (t := 54) d_22_39 rfl (fun c1 => ?_) (fun c1 => ?_)
  · have h := h.1 c1
    exact (u_X1_thing_54 hB h).weak ⟨rfl, rfl, rfl, rfl, trivial⟩
  · have h := h.2 c1
    refine zu_iload_n d_22_42 rfl ?_
    refine zu_iconst d_22_43 zi_2 ?_
    refine zu_iload d_22_44 rfl ?_
    refine zu_stk d_22_46 rfl rfl ?_
    refine zu_cmpge (t := 54) d_22_47 rfl (fun c2 => ?_) (fun c2 => ?_)
    · have h := h.1 c2
      exact (u_X1_thing_54 hB h).weak ⟨rfl, rfl, rfl, rfl, trivial⟩
    · have h := h.2 c2
      refine zu_iconst d_22_50 zi_1 ?_
      refine zu_goto (t := 55) d_22_51 rfl ?_
      exact (u_X1_thing_55 hB h).weak ⟨rfl, rfl, rfl, rfl, trivial⟩
def w_X1_thing (X : zs_X) (d : Nat) (p0 : Nat) (p1 : Int32) (p2 : Int32) (S : zs_T) (Q : zs_Q) : Prop :=
  (zs_K S p0 = some (.inl 0) ∧ zs_C X d 23 [.ref p0, .int p1] S (zs_kV (fun S2 => (zs_K S2 p0 = some (.inl 0) ∧ ∃ b5, (zs_R S2 3 p0) = some b5 ∧ zs_K S2 b5 = some (.inl 1) ∧ ∃ b8, (zs_R S2 1029 b5) = some b8 ∧ zs_A S2 b8 4 p1 ∧ ∃ b11, (zs_r S2 b8 p1.toNatClampNeg) = some b11 ∧ zs_K S2 b11 = some (.inl 6) ∧ zs_C X d 6004 [.ref b11] S2 (zs_kI (fun v15 S14 => (((v15 = 0 → (w_X1_thing_36 X d p0 p1 p2 (0 : Int32) S14 Q)) ∧ (¬ (v15 = 0) → (zs_K S14 b11 = some (.inl 6) ∧ zs_C X d 6005 [.ref b11] S14 (zs_kR (fun v19 S18 => (∃ b20, v19 = some b20 ∧ zs_K S18 b20 = some (.inl 6) ∧ ∃ b23, (zs_R S18 6007 b20) = some b23 ∧ zs_K S18 b23 = some (.inl 16) ∧ zs_C X d 16001 [.ref b23] S18 (zs_kI (fun v27 S26 => (w_X1_thing_36 X d p0 p1 p2 v27 S26 Q)) Q))) Q)))))) Q))) Q))
theorem u_X1_thing {σ : Nat → Nat} {n0 : Nat} {bf : ab_B} {d : Nat} {p0 : Nat} {p1 : Int32} {p2 : Int32} {S : zs_T} {Q : zs_Q} (hB : zt_B bf) (hd : 1 ≤ d) (h : w_X1_thing (zx σ n0 bf) (d - 1) p0 p1 p2 S Q) : zs_C (zx σ n0 bf) d 22 [.ref p0, .int p1, .int p2] S Q := by
  have hL : lv_args 0 [.ref p0, .int p1, .int p2] = [(0, .ref p0), (1, .int p1), (2, .int p2)] := rfl
  refine zs_C.of1 (hB.2 22 (by decide) (by decide)) hd (by rw [hL]; exact zs_sub_self _ (by exact ⟨rfl, rfl, rfl, trivial⟩)) ?_
  rw [hL]
  clear hL
  unfold w_X1_thing at h
  refine zu_aload_n d_22_0 rfl (zs_ra _) ?_
  refine zu_iload_n d_22_1 rfl ?_
  obtain ⟨k1, h⟩ := h
  refine zc_0_234 (x0 := p1) hB rfl k1 d_22_2 (Nat.le_of_ble_eq_true rfl) h (fun S2 h => ?_)
  refine zu_aload_n d_22_5 rfl (zs_ra _) ?_
  obtain ⟨k4, h⟩ := h
  refine zg_0_39 rfl d_22_6 k4 ?_
  obtain ⟨b5, e6, h⟩ := h
  refine zs_stk0 (zs_rfe e6) ?_
  obtain ⟨k7, h⟩ := h
  refine zg_0_237 rfl d_22_9 k7 ?_
  refine zu_iload_n d_22_12 rfl ?_
  obtain ⟨b8, e9, h⟩ := h
  refine zs_stk1 (zs_rfe e9) ?_
  obtain ⟨k10, h⟩ := h
  refine zu_aald (k := 4) d_22_13 rfl rfl k10 ?_
  refine zu_astore_n d_22_14 (zs_rr _) (zs_lt zq_22 rfl) ?_
  refine zu_aload_n d_22_15 rfl (zs_rr _) ?_
  obtain ⟨b11, e12, h⟩ := h
  refine zs_stk0 (zs_rfe e12) ?_
  obtain ⟨k13, h⟩ := h
  refine zc_0_218  hB rfl k13 d_22_16 (Nat.le_of_ble_eq_true rfl) h (fun v15 S14 h => ?_)
  refine zu_ifeq (t := 35) d_22_19 rfl (fun c16 => ?_) (fun c16 => ?_)
  · have h := h.1 c16
    refine zu_iconst d_22_35 zi_0 ?_
    exact (u_X1_thing_36 hB h).weak ⟨rfl, rfl, rfl, trivial⟩
  · have h := h.2 c16
    refine zu_aload_n d_22_22 rfl (zs_rr _) ?_
    refine zs_stk0 (zs_rfe e12) ?_
    obtain ⟨k17, h⟩ := h
    refine zc_0_224  hB rfl k17 d_22_23 (Nat.le_of_ble_eq_true rfl) h (fun v19 S18 h => ?_)
    obtain ⟨b20, e21, h⟩ := h
    refine zs_stk0 (zs_rfe e21) ?_
    obtain ⟨k22, h⟩ := h
    refine zg_0_228 rfl d_22_26 k22 ?_
    obtain ⟨b23, e24, h⟩ := h
    refine zs_stk0 (zs_rfe e24) ?_
    obtain ⟨k25, h⟩ := h
    refine zc_0_158  hB rfl k25 d_22_29 (Nat.le_of_ble_eq_true rfl) h (fun v27 S26 h => ?_)
    refine zu_goto (t := 36) d_22_32 rfl ?_
    exact (u_X1_thing_36 hB h).weak ⟨rfl, rfl, rfl, trivial⟩
/-! SchemaPascal.thingIn(I)V -/
theorem zm_23 {σ : Nat → Nat} {n0 : Nat} {bf : ab_B} : ab_code (zx σ n0 bf).1 23 = prog_1_method_23_code := rfl
theorem zq_23 {σ : Nat → Nat} {n0 : Nat} {bf : ab_B} : ab_maxL (zx σ n0 bf).1 23 = 2 := rfl
theorem zr_23 {σ : Nat → Nat} {n0 : Nat} {bf : ab_B} : ab_ret (zx σ n0 bf).1 23 = (Option.none : Option Jvm.ClassFile.FieldType) := rfl
theorem d_23_0 {σ : Nat → Nat} {n0 : Nat} {bf : ab_B} : decode (ab_code (zx σ n0 bf).1 23) 0 = .ok (.aload_n 0, 1) := zd zm_23 (by decide +kernel)
theorem d_23_1 {σ : Nat → Nat} {n0 : Nat} {bf : ab_B} : decode (ab_code (zx σ n0 bf).1 23) 1 = .ok (.getfield 39, 3) := zd zm_23 (by decide +kernel)
theorem d_23_4 {σ : Nat → Nat} {n0 : Nat} {bf : ab_B} : decode (ab_code (zx σ n0 bf).1 23) 4 = .ok (.getfield 78, 3) := zd zm_23 (by decide +kernel)
theorem d_23_7 {σ : Nat → Nat} {n0 : Nat} {bf : ab_B} : decode (ab_code (zx σ n0 bf).1 23) 7 = .ok (.ifCond .eq 23, 3) := zd zm_23 (by decide +kernel)
theorem d_23_10 {σ : Nat → Nat} {n0 : Nat} {bf : ab_B} : decode (ab_code (zx σ n0 bf).1 23) 10 = .ok (.iload_n 1, 1) := zd zm_23 (by decide +kernel)
theorem d_23_11 {σ : Nat → Nat} {n0 : Nat} {bf : ab_B} : decode (ab_code (zx σ n0 bf).1 23) 11 = .ok (.iconst 1, 1) := zd zm_23 (by decide +kernel)
theorem d_23_12 {σ : Nat → Nat} {n0 : Nat} {bf : ab_B} : decode (ab_code (zx σ n0 bf).1 23) 12 = .ok (.if_icmp .lt 18, 3) := zd zm_23 (by decide +kernel)
theorem d_23_15 {σ : Nat → Nat} {n0 : Nat} {bf : ab_B} : decode (ab_code (zx σ n0 bf).1 23) 15 = .ok (.iload_n 1, 1) := zd zm_23 (by decide +kernel)
theorem d_23_16 {σ : Nat → Nat} {n0 : Nat} {bf : ab_B} : decode (ab_code (zx σ n0 bf).1 23) 16 = .ok (.aload_n 0, 1) := zd zm_23 (by decide +kernel)
theorem d_23_17 {σ : Nat → Nat} {n0 : Nat} {bf : ab_B} : decode (ab_code (zx σ n0 bf).1 23) 17 = .ok (.getfield 39, 3) := zd zm_23 (by decide +kernel)
theorem d_23_20 {σ : Nat → Nat} {n0 : Nat} {bf : ab_B} : decode (ab_code (zx σ n0 bf).1 23) 20 = .ok (.getfield 231, 3) := zd zm_23 (by decide +kernel)
theorem d_23_23 {σ : Nat → Nat} {n0 : Nat} {bf : ab_B} : decode (ab_code (zx σ n0 bf).1 23) 23 = .ok (.if_icmp .gt 7, 3) := zd zm_23 (by decide +kernel)
theorem d_23_26 {σ : Nat → Nat} {n0 : Nat} {bf : ab_B} : decode (ab_code (zx σ n0 bf).1 23) 26 = .ok (.iconst 1, 1) := zd zm_23 (by decide +kernel)
theorem d_23_27 {σ : Nat → Nat} {n0 : Nat} {bf : ab_B} : decode (ab_code (zx σ n0 bf).1 23) 27 = .ok (.goto 4, 3) := zd zm_23 (by decide +kernel)
theorem d_23_30 {σ : Nat → Nat} {n0 : Nat} {bf : ab_B} : decode (ab_code (zx σ n0 bf).1 23) 30 = .ok (.iconst 0, 1) := zd zm_23 (by decide +kernel)
theorem d_23_31 {σ : Nat → Nat} {n0 : Nat} {bf : ab_B} : decode (ab_code (zx σ n0 bf).1 23) 31 = .ok (.invokestatic 163, 3) := zd zm_23 (by decide +kernel)
theorem d_23_34 {σ : Nat → Nat} {n0 : Nat} {bf : ab_B} : decode (ab_code (zx σ n0 bf).1 23) 34 = .ok (.return_, 1) := zd zm_23 (by decide +kernel)
def w_X1_thingIn_31 (X : zs_X) (d : Nat) (q0 : Int32) (S : zs_T) (Q : zs_Q) : Prop :=
  (zs_C X d 17 [.int q0] S (zs_kV (fun S1 => (Q (.returned none) S1)) Q))
theorem u_X1_thingIn_31 {σ : Nat → Nat} {n0 : Nat} {bf : ab_B} {d : Nat} {q0 : Int32} {S : zs_T} {Q : zs_Q} (hB : zt_B bf) (h : w_X1_thingIn_31 (zx σ n0 bf) d q0 S Q) : zs_U (zx σ n0 bf) d 23 31 [] [.int q0] S Q := by
  unfold w_X1_thingIn_31 at h
  refine zc_0_163 (x0 := q0) hB rfl d_23_31 (Nat.le_of_ble_eq_true rfl) h (fun S1 h => ?_)
  exact zu_vret d_23_34 zr_23 h
def w_X1_thingIn_30 (X : zs_X) (d : Nat)  (S : zs_T) (Q : zs_Q) : Prop :=
  (w_X1_thingIn_31 X d (0 : Int32) S Q)
theorem u_X1_thingIn_30 {σ : Nat → Nat} {n0 : Nat} {bf : ab_B} {d : Nat}  {S : zs_T} {Q : zs_Q} (hB : zt_B bf) (h : w_X1_thingIn_30 (zx σ n0 bf) d  S Q) : zs_U (zx σ n0 bf) d 23 30 [] [] S Q := by
  unfold w_X1_thingIn_30 at h
  refine zu_iconst d_23_30 zi_0 ?_
  exact (u_X1_thingIn_31 hB h).weak trivial
def w_X1_thingIn (X : zs_X) (d : Nat) (p0 : Nat) (p1 : Int32) (S : zs_T) (Q : zs_Q) : Prop :=
  (zs_K S p0 = some (.inl 0) ∧ ∃ b2, (zs_R S 3 p0) = some b2 ∧ zs_K S b2 = some (.inl 1) ∧ (((zs_I S 1038 b2) = 0 → w_X1_thingIn_30 X d  S Q) ∧ (¬ ((zs_I S 1038 b2) = 0) → (((p1 < (1 : Int32) → w_X1_thingIn_30 X d  S Q) ∧ (¬ (p1 < (1 : Int32)) → ((((zs_I S 1030 b2) < p1 → w_X1_thingIn_30 X d  S Q) ∧ (¬ ((zs_I S 1030 b2) < p1) → (w_X1_thingIn_31 X d (1 : Int32) S Q))))))))))
theorem u_X1_thingIn {σ : Nat → Nat} {n0 : Nat} {bf : ab_B} {d : Nat} {p0 : Nat} {p1 : Int32} {S : zs_T} {Q : zs_Q} (hB : zt_B bf) (hd : 1 ≤ d) (h : w_X1_thingIn (zx σ n0 bf) (d - 1) p0 p1 S Q) : zs_C (zx σ n0 bf) d 23 [.ref p0, .int p1] S Q := by
  have hL : lv_args 0 [.ref p0, .int p1] = [(0, .ref p0), (1, .int p1)] := rfl
  refine zs_C.of1 (hB.2 23 (by decide) (by decide)) hd (by rw [hL]; exact zs_sub_self _ (by exact ⟨rfl, rfl, trivial⟩)) ?_
  rw [hL]
  clear hL
  unfold w_X1_thingIn at h
  refine zu_aload_n d_23_0 rfl (zs_ra _) ?_
  obtain ⟨k1, h⟩ := h
  refine zg_0_39 rfl d_23_1 k1 ?_
  obtain ⟨b2, e3, h⟩ := h
  refine zs_stk0 (zs_rfe e3) ?_
  obtain ⟨k4, h⟩ := h
  refine zg_0_78 rfl d_23_4 k4 ?_
  refine zu_ifeq (t := 30) d_23_7 rfl (fun c5 => ?_) (fun c5 => ?_)
  · have h := h.1 c5
    exact (u_X1_thingIn_30 hB h).weak trivial
  · have h := h.2 c5
    refine zu_iload_n d_23_10 rfl ?_
    refine zu_iconst d_23_11 zi_1 ?_
    refine zu_cmplt (t := 30) d_23_12 rfl (fun c6 => ?_) (fun c6 => ?_)
    · have h := h.1 c6
      exact (u_X1_thingIn_30 hB h).weak trivial
    · have h := h.2 c6
      refine zu_iload_n d_23_15 rfl ?_
      refine zu_aload_n d_23_16 rfl (zs_ra _) ?_
      refine zg_0_39 rfl d_23_17 k1 ?_
      refine zs_stk0 (zs_rfe e3) ?_
      refine zg_0_231 rfl d_23_20 k4 ?_
      refine zu_cmpgt (t := 30) d_23_23 rfl (fun c7 => ?_) (fun c7 => ?_)
      · have h := h.1 c7
        exact (u_X1_thingIn_30 hB h).weak trivial
      · have h := h.2 c7
        refine zu_iconst d_23_26 zi_1 ?_
        refine zu_goto (t := 31) d_23_27 rfl ?_
        exact (u_X1_thingIn_31 hB h).weak trivial
/-! SchemaPascal.cell(II)J -/
theorem zm_24 {σ : Nat → Nat} {n0 : Nat} {bf : ab_B} : ab_code (zx σ n0 bf).1 24 = prog_1_method_25_code := rfl
theorem zq_24 {σ : Nat → Nat} {n0 : Nat} {bf : ab_B} : ab_maxL (zx σ n0 bf).1 24 = 3 := rfl
theorem zr_24 {σ : Nat → Nat} {n0 : Nat} {bf : ab_B} : ab_ret (zx σ n0 bf).1 24 = (Option.some Jvm.ClassFile.FieldType.long) := rfl
theorem d_24_0 {σ : Nat → Nat} {n0 : Nat} {bf : ab_B} : decode (ab_code (zx σ n0 bf).1 24) 0 = .ok (.aload_n 0, 1) := zd zm_24 (by decide +kernel)
theorem d_24_1 {σ : Nat → Nat} {n0 : Nat} {bf : ab_B} : decode (ab_code (zx σ n0 bf).1 24) 1 = .ok (.iload_n 1, 1) := zd zm_24 (by decide +kernel)
theorem d_24_2 {σ : Nat → Nat} {n0 : Nat} {bf : ab_B} : decode (ab_code (zx σ n0 bf).1 24) 2 = .ok (.invokevirtual 234, 3) := zd zm_24 (by decide +kernel)
theorem d_24_5 {σ : Nat → Nat} {n0 : Nat} {bf : ab_B} : decode (ab_code (zx σ n0 bf).1 24) 5 = .ok (.aload_n 0, 1) := zd zm_24 (by decide +kernel)
theorem d_24_6 {σ : Nat → Nat} {n0 : Nat} {bf : ab_B} : decode (ab_code (zx σ n0 bf).1 24) 6 = .ok (.getfield 39, 3) := zd zm_24 (by decide +kernel)
theorem d_24_9 {σ : Nat → Nat} {n0 : Nat} {bf : ab_B} : decode (ab_code (zx σ n0 bf).1 24) 9 = .ok (.getfield 241, 3) := zd zm_24 (by decide +kernel)
theorem d_24_12 {σ : Nat → Nat} {n0 : Nat} {bf : ab_B} : decode (ab_code (zx σ n0 bf).1 24) 12 = .ok (.iload_n 1, 1) := zd zm_24 (by decide +kernel)
theorem d_24_13 {σ : Nat → Nat} {n0 : Nat} {bf : ab_B} : decode (ab_code (zx σ n0 bf).1 24) 13 = .ok (.baload, 1) := zd zm_24 (by decide +kernel)
theorem d_24_14 {σ : Nat → Nat} {n0 : Nat} {bf : ab_B} : decode (ab_code (zx σ n0 bf).1 24) 14 = .ok (.ifCond .eq 24, 3) := zd zm_24 (by decide +kernel)
theorem d_24_17 {σ : Nat → Nat} {n0 : Nat} {bf : ab_B} : decode (ab_code (zx σ n0 bf).1 24) 17 = .ok (.iload_n 2, 1) := zd zm_24 (by decide +kernel)
theorem d_24_18 {σ : Nat → Nat} {n0 : Nat} {bf : ab_B} : decode (ab_code (zx σ n0 bf).1 24) 18 = .ok (.ifCond .lt 20, 3) := zd zm_24 (by decide +kernel)
theorem d_24_21 {σ : Nat → Nat} {n0 : Nat} {bf : ab_B} : decode (ab_code (zx σ n0 bf).1 24) 21 = .ok (.iload_n 2, 1) := zd zm_24 (by decide +kernel)
theorem d_24_22 {σ : Nat → Nat} {n0 : Nat} {bf : ab_B} : decode (ab_code (zx σ n0 bf).1 24) 22 = .ok (.aload_n 0, 1) := zd zm_24 (by decide +kernel)
theorem d_24_23 {σ : Nat → Nat} {n0 : Nat} {bf : ab_B} : decode (ab_code (zx σ n0 bf).1 24) 23 = .ok (.getfield 39, 3) := zd zm_24 (by decide +kernel)
theorem d_24_26 {σ : Nat → Nat} {n0 : Nat} {bf : ab_B} : decode (ab_code (zx σ n0 bf).1 24) 26 = .ok (.getfield 244, 3) := zd zm_24 (by decide +kernel)
theorem d_24_29 {σ : Nat → Nat} {n0 : Nat} {bf : ab_B} : decode (ab_code (zx σ n0 bf).1 24) 29 = .ok (.iload_n 1, 1) := zd zm_24 (by decide +kernel)
theorem d_24_30 {σ : Nat → Nat} {n0 : Nat} {bf : ab_B} : decode (ab_code (zx σ n0 bf).1 24) 30 = .ok (.iaload, 1) := zd zm_24 (by decide +kernel)
theorem d_24_31 {σ : Nat → Nat} {n0 : Nat} {bf : ab_B} : decode (ab_code (zx σ n0 bf).1 24) 31 = .ok (.if_icmp .ge 7, 3) := zd zm_24 (by decide +kernel)
theorem d_24_34 {σ : Nat → Nat} {n0 : Nat} {bf : ab_B} : decode (ab_code (zx σ n0 bf).1 24) 34 = .ok (.iconst 1, 1) := zd zm_24 (by decide +kernel)
theorem d_24_35 {σ : Nat → Nat} {n0 : Nat} {bf : ab_B} : decode (ab_code (zx σ n0 bf).1 24) 35 = .ok (.goto 4, 3) := zd zm_24 (by decide +kernel)
theorem d_24_38 {σ : Nat → Nat} {n0 : Nat} {bf : ab_B} : decode (ab_code (zx σ n0 bf).1 24) 38 = .ok (.iconst 0, 1) := zd zm_24 (by decide +kernel)
theorem d_24_39 {σ : Nat → Nat} {n0 : Nat} {bf : ab_B} : decode (ab_code (zx σ n0 bf).1 24) 39 = .ok (.invokestatic 163, 3) := zd zm_24 (by decide +kernel)
theorem d_24_42 {σ : Nat → Nat} {n0 : Nat} {bf : ab_B} : decode (ab_code (zx σ n0 bf).1 24) 42 = .ok (.aload_n 0, 1) := zd zm_24 (by decide +kernel)
theorem d_24_43 {σ : Nat → Nat} {n0 : Nat} {bf : ab_B} : decode (ab_code (zx σ n0 bf).1 24) 43 = .ok (.getfield 39, 3) := zd zm_24 (by decide +kernel)
theorem d_24_46 {σ : Nat → Nat} {n0 : Nat} {bf : ab_B} : decode (ab_code (zx σ n0 bf).1 24) 46 = .ok (.getfield 211, 3) := zd zm_24 (by decide +kernel)
theorem d_24_49 {σ : Nat → Nat} {n0 : Nat} {bf : ab_B} : decode (ab_code (zx σ n0 bf).1 24) 49 = .ok (.aload_n 0, 1) := zd zm_24 (by decide +kernel)
theorem d_24_50 {σ : Nat → Nat} {n0 : Nat} {bf : ab_B} : decode (ab_code (zx σ n0 bf).1 24) 50 = .ok (.getfield 39, 3) := zd zm_24 (by decide +kernel)
theorem d_24_53 {σ : Nat → Nat} {n0 : Nat} {bf : ab_B} : decode (ab_code (zx σ n0 bf).1 24) 53 = .ok (.getfield 247, 3) := zd zm_24 (by decide +kernel)
theorem d_24_56 {σ : Nat → Nat} {n0 : Nat} {bf : ab_B} : decode (ab_code (zx σ n0 bf).1 24) 56 = .ok (.iload_n 1, 1) := zd zm_24 (by decide +kernel)
theorem d_24_57 {σ : Nat → Nat} {n0 : Nat} {bf : ab_B} : decode (ab_code (zx σ n0 bf).1 24) 57 = .ok (.iaload, 1) := zd zm_24 (by decide +kernel)
theorem d_24_58 {σ : Nat → Nat} {n0 : Nat} {bf : ab_B} : decode (ab_code (zx σ n0 bf).1 24) 58 = .ok (.iload_n 2, 1) := zd zm_24 (by decide +kernel)
theorem d_24_59 {σ : Nat → Nat} {n0 : Nat} {bf : ab_B} : decode (ab_code (zx σ n0 bf).1 24) 59 = .ok (.iadd, 1) := zd zm_24 (by decide +kernel)
theorem d_24_60 {σ : Nat → Nat} {n0 : Nat} {bf : ab_B} : decode (ab_code (zx σ n0 bf).1 24) 60 = .ok (.baload, 1) := zd zm_24 (by decide +kernel)
theorem d_24_61 {σ : Nat → Nat} {n0 : Nat} {bf : ab_B} : decode (ab_code (zx σ n0 bf).1 24) 61 = .ok (.invokestatic 115, 3) := zd zm_24 (by decide +kernel)
theorem d_24_64 {σ : Nat → Nat} {n0 : Nat} {bf : ab_B} : decode (ab_code (zx σ n0 bf).1 24) 64 = .ok (.aload_n 0, 1) := zd zm_24 (by decide +kernel)
theorem d_24_65 {σ : Nat → Nat} {n0 : Nat} {bf : ab_B} : decode (ab_code (zx σ n0 bf).1 24) 65 = .ok (.getfield 39, 3) := zd zm_24 (by decide +kernel)
theorem d_24_68 {σ : Nat → Nat} {n0 : Nat} {bf : ab_B} : decode (ab_code (zx σ n0 bf).1 24) 68 = .ok (.getfield 215, 3) := zd zm_24 (by decide +kernel)
theorem d_24_71 {σ : Nat → Nat} {n0 : Nat} {bf : ab_B} : decode (ab_code (zx σ n0 bf).1 24) 71 = .ok (.aload_n 0, 1) := zd zm_24 (by decide +kernel)
theorem d_24_72 {σ : Nat → Nat} {n0 : Nat} {bf : ab_B} : decode (ab_code (zx σ n0 bf).1 24) 72 = .ok (.getfield 39, 3) := zd zm_24 (by decide +kernel)
theorem d_24_75 {σ : Nat → Nat} {n0 : Nat} {bf : ab_B} : decode (ab_code (zx σ n0 bf).1 24) 75 = .ok (.getfield 247, 3) := zd zm_24 (by decide +kernel)
theorem d_24_78 {σ : Nat → Nat} {n0 : Nat} {bf : ab_B} : decode (ab_code (zx σ n0 bf).1 24) 78 = .ok (.iload_n 1, 1) := zd zm_24 (by decide +kernel)
theorem d_24_79 {σ : Nat → Nat} {n0 : Nat} {bf : ab_B} : decode (ab_code (zx σ n0 bf).1 24) 79 = .ok (.iaload, 1) := zd zm_24 (by decide +kernel)
theorem d_24_80 {σ : Nat → Nat} {n0 : Nat} {bf : ab_B} : decode (ab_code (zx σ n0 bf).1 24) 80 = .ok (.iload_n 2, 1) := zd zm_24 (by decide +kernel)
theorem d_24_81 {σ : Nat → Nat} {n0 : Nat} {bf : ab_B} : decode (ab_code (zx σ n0 bf).1 24) 81 = .ok (.iadd, 1) := zd zm_24 (by decide +kernel)
theorem d_24_82 {σ : Nat → Nat} {n0 : Nat} {bf : ab_B} : decode (ab_code (zx σ n0 bf).1 24) 82 = .ok (.laload, 1) := zd zm_24 (by decide +kernel)
theorem d_24_83 {σ : Nat → Nat} {n0 : Nat} {bf : ab_B} : decode (ab_code (zx σ n0 bf).1 24) 83 = .ok (.lreturn, 1) := zd zm_24 (by decide +kernel)
def w_X1_cell_39 (X : zs_X) (d : Nat) (p0 : Nat) (p1 : Int32) (p2 : Int32) (q0 : Int32) (S : zs_T) (Q : zs_Q) : Prop :=
  (zs_C X d 17 [.int q0] S (zs_kV (fun S1 => (zs_K S1 p0 = some (.inl 0) ∧ ∃ b4, (zs_R S1 3 p0) = some b4 ∧ zs_K S1 b4 = some (.inl 1) ∧ ∃ b7, (zs_R S1 1026 b4) = some b7 ∧ zs_A S1 b7 0 p1 ∧ ∃ b10, (zs_R S1 1002 b4) = some b10 ∧ zs_A S1 b10 2 ((zs_i S1 b7 p1.toNatClampNeg) + p2) ∧ zs_C X d 10 [.int (zs_i S1 b10 ((zs_i S1 b7 p1.toNatClampNeg) + p2).toNatClampNeg)] S1 (zs_kV (fun S13 => (zs_K S13 p0 = some (.inl 0) ∧ ∃ b16, (zs_R S13 3 p0) = some b16 ∧ zs_K S13 b16 = some (.inl 1) ∧ ∃ b19, (zs_R S13 1026 b16) = some b19 ∧ zs_A S13 b19 0 p1 ∧ ∃ b22, (zs_R S13 1001 b16) = some b22 ∧ zs_A S13 b22 3 ((zs_i S13 b19 p1.toNatClampNeg) + p2) ∧ Q (.returned (some (.long (zs_j S13 b22 ((zs_i S13 b19 p1.toNatClampNeg) + p2).toNatClampNeg)))) S13)) Q))) Q))
theorem u_X1_cell_39 {σ : Nat → Nat} {n0 : Nat} {bf : ab_B} {d : Nat} {p0 : Nat} {p1 : Int32} {p2 : Int32} {q0 : Int32} {S : zs_T} {Q : zs_Q} (hB : zt_B bf) (h : w_X1_cell_39 (zx σ n0 bf) d p0 p1 p2 q0 S Q) : zs_U (zx σ n0 bf) d 24 39 [(0, .ref p0), (1, .int p1), (2, .int p2)] [.int q0] S Q := by
  unfold w_X1_cell_39 at h
  refine zc_0_163 (x0 := q0) hB rfl d_24_39 (Nat.le_of_ble_eq_true rfl) h (fun S1 h => ?_)
  refine zu_aload_n d_24_42 rfl (zs_ra _) ?_
  obtain ⟨k3, h⟩ := h
  refine zg_0_39 rfl d_24_43 k3 ?_
  obtain ⟨b4, e5, h⟩ := h
  refine zs_stk0 (zs_rfe e5) ?_
  obtain ⟨k6, h⟩ := h
  refine zg_0_211 rfl d_24_46 k6 ?_
  refine zu_aload_n d_24_49 rfl (zs_ra _) ?_
  refine zg_0_39 rfl d_24_50 k3 ?_
  refine zs_stk0 (zs_rfe e5) ?_
  refine zg_0_247 rfl d_24_53 k6 ?_
  refine zu_iload_n d_24_56 rfl ?_
  obtain ⟨b7, e8, h⟩ := h
  refine zs_stk1 (zs_rfe e8) ?_
  obtain ⟨k9, h⟩ := h
  refine zu_iald (k := 0) d_24_57 rfl rfl k9 ?_
  refine zu_iload_n d_24_58 rfl ?_
  refine zu_stk d_24_59 rfl rfl ?_
  obtain ⟨b10, e11, h⟩ := h
  refine zs_stk1 (zs_rfe e11) ?_
  obtain ⟨k12, h⟩ := h
  refine zu_bald (k := 2) d_24_60 rfl (Or.inr rfl) k12 ?_
  refine zc_0_115 (x0 := (zs_i S1 b10 ((zs_i S1 b7 p1.toNatClampNeg) + p2).toNatClampNeg)) hB rfl d_24_61 (Nat.le_of_ble_eq_true rfl) h (fun S13 h => ?_)
  refine zu_aload_n d_24_64 rfl (zs_ra _) ?_
  obtain ⟨k15, h⟩ := h
  refine zg_0_39 rfl d_24_65 k15 ?_
  obtain ⟨b16, e17, h⟩ := h
  refine zs_stk0 (zs_rfe e17) ?_
  obtain ⟨k18, h⟩ := h
  refine zg_0_215 rfl d_24_68 k18 ?_
  refine zu_aload_n d_24_71 rfl (zs_ra _) ?_
  refine zg_0_39 rfl d_24_72 k15 ?_
  refine zs_stk0 (zs_rfe e17) ?_
  refine zg_0_247 rfl d_24_75 k18 ?_
  refine zu_iload_n d_24_78 rfl ?_
  obtain ⟨b19, e20, h⟩ := h
  refine zs_stk1 (zs_rfe e20) ?_
  obtain ⟨k21, h⟩ := h
  refine zu_iald (k := 0) d_24_79 rfl rfl k21 ?_
  refine zu_iload_n d_24_80 rfl ?_
  refine zu_stk d_24_81 rfl rfl ?_
  obtain ⟨b22, e23, h⟩ := h
  refine zs_stk1 (zs_rfe e23) ?_
  obtain ⟨k24, h⟩ := h
  refine zu_lald (k := 3) d_24_82 rfl rfl k24 ?_
  exact zu_lret d_24_83 zr_24 h
def w_X1_cell_34 (X : zs_X) (d : Nat) (p0 : Nat) (p1 : Int32) (p2 : Int32) (S : zs_T) (Q : zs_Q) : Prop :=
  (w_X1_cell_39 X d p0 p1 p2 (1 : Int32) S Q)
theorem u_X1_cell_34 {σ : Nat → Nat} {n0 : Nat} {bf : ab_B} {d : Nat} {p0 : Nat} {p1 : Int32} {p2 : Int32} {S : zs_T} {Q : zs_Q} (hB : zt_B bf) (h : w_X1_cell_34 (zx σ n0 bf) d p0 p1 p2 S Q) : zs_U (zx σ n0 bf) d 24 34 [(0, .ref p0), (1, .int p1), (2, .int p2)] [] S Q := by
  unfold w_X1_cell_34 at h
  refine zu_iconst d_24_34 zi_1 ?_
  refine zu_goto (t := 39) d_24_35 rfl ?_
  exact (u_X1_cell_39 hB h).weak ⟨rfl, rfl, rfl, trivial⟩
def w_X1_cell_38 (X : zs_X) (d : Nat) (p0 : Nat) (p1 : Int32) (p2 : Int32) (S : zs_T) (Q : zs_Q) : Prop :=
  (w_X1_cell_39 X d p0 p1 p2 (0 : Int32) S Q)
theorem u_X1_cell_38 {σ : Nat → Nat} {n0 : Nat} {bf : ab_B} {d : Nat} {p0 : Nat} {p1 : Int32} {p2 : Int32} {S : zs_T} {Q : zs_Q} (hB : zt_B bf) (h : w_X1_cell_38 (zx σ n0 bf) d p0 p1 p2 S Q) : zs_U (zx σ n0 bf) d 24 38 [(0, .ref p0), (1, .int p1), (2, .int p2)] [] S Q := by
  unfold w_X1_cell_38 at h
  refine zu_iconst d_24_38 zi_0 ?_
  exact (u_X1_cell_39 hB h).weak ⟨rfl, rfl, rfl, trivial⟩
def w_X1_cell (X : zs_X) (d : Nat) (p0 : Nat) (p1 : Int32) (p2 : Int32) (S : zs_T) (Q : zs_Q) : Prop :=
  (zs_K S p0 = some (.inl 0) ∧ zs_C X d 23 [.ref p0, .int p1] S (zs_kV (fun S2 => (zs_K S2 p0 = some (.inl 0) ∧ ∃ b5, (zs_R S2 3 p0) = some b5 ∧ zs_K S2 b5 = some (.inl 1) ∧ ∃ b8, (zs_R S2 1028 b5) = some b8 ∧ zs_A S2 b8 2 p1 ∧ (((zs_i S2 b8 p1.toNatClampNeg) = 0 → w_X1_cell_38 X d p0 p1 p2 S2 Q) ∧ (¬ ((zs_i S2 b8 p1.toNatClampNeg) = 0) → (((p2 < 0 → w_X1_cell_38 X d p0 p1 p2 S2 Q) ∧ (¬ (p2 < 0) → (∃ b13, (zs_R S2 1027 b5) = some b13 ∧ zs_A S2 b13 0 p1 ∧ (((zs_i S2 b13 p1.toNatClampNeg) ≤ p2 → w_X1_cell_38 X d p0 p1 p2 S2 Q) ∧ (¬ ((zs_i S2 b13 p1.toNatClampNeg) ≤ p2) → w_X1_cell_34 X d p0 p1 p2 S2 Q)))))))))) Q))
theorem u_X1_cell {σ : Nat → Nat} {n0 : Nat} {bf : ab_B} {d : Nat} {p0 : Nat} {p1 : Int32} {p2 : Int32} {S : zs_T} {Q : zs_Q} (hB : zt_B bf) (hd : 1 ≤ d) (h : w_X1_cell (zx σ n0 bf) (d - 1) p0 p1 p2 S Q) : zs_C (zx σ n0 bf) d 24 [.ref p0, .int p1, .int p2] S Q := by
  have hL : lv_args 0 [.ref p0, .int p1, .int p2] = [(0, .ref p0), (1, .int p1), (2, .int p2)] := rfl
  refine zs_C.of1 (hB.2 24 (by decide) (by decide)) hd (by rw [hL]; exact zs_sub_self _ (by exact ⟨rfl, rfl, rfl, trivial⟩)) ?_
  rw [hL]
  clear hL
  unfold w_X1_cell at h
  refine zu_aload_n d_24_0 rfl (zs_ra _) ?_
  refine zu_iload_n d_24_1 rfl ?_
  obtain ⟨k1, h⟩ := h
  refine zc_0_234 (x0 := p1) hB rfl k1 d_24_2 (Nat.le_of_ble_eq_true rfl) h (fun S2 h => ?_)
  refine zu_aload_n d_24_5 rfl (zs_ra _) ?_
  obtain ⟨k4, h⟩ := h
  refine zg_0_39 rfl d_24_6 k4 ?_
  obtain ⟨b5, e6, h⟩ := h
  refine zs_stk0 (zs_rfe e6) ?_
  obtain ⟨k7, h⟩ := h
  refine zg_0_241 rfl d_24_9 k7 ?_
  refine zu_iload_n d_24_12 rfl ?_
  obtain ⟨b8, e9, h⟩ := h
  refine zs_stk1 (zs_rfe e9) ?_
  obtain ⟨k10, h⟩ := h
  refine zu_bald (k := 2) d_24_13 rfl (Or.inr rfl) k10 ?_
  refine zu_ifeq (t := 38) d_24_14 rfl (fun c11 => ?_) (fun c11 => ?_)
  · have h := h.1 c11
    exact (u_X1_cell_38 hB h).weak ⟨rfl, rfl, rfl, trivial⟩
  · have h := h.2 c11
    refine zu_iload_n d_24_17 rfl ?_
    refine zu_iflt (t := 38) d_24_18 rfl (fun c12 => ?_) (fun c12 => ?_)
    · have h := h.1 c12
      exact (u_X1_cell_38 hB h).weak ⟨rfl, rfl, rfl, trivial⟩
    · have h := h.2 c12
      refine zu_iload_n d_24_21 rfl ?_
      refine zu_aload_n d_24_22 rfl (zs_ra _) ?_
      refine zg_0_39 rfl d_24_23 k4 ?_
      refine zs_stk0 (zs_rfe e6) ?_
      refine zg_0_244 rfl d_24_26 k7 ?_
      refine zu_iload_n d_24_29 rfl ?_
      obtain ⟨b13, e14, h⟩ := h
      refine zs_stk1 (zs_rfe e14) ?_
      obtain ⟨k15, h⟩ := h
      refine zu_iald (k := 0) d_24_30 rfl rfl k15 ?_
      refine zu_cmpge (t := 38) d_24_31 rfl (fun c16 => ?_) (fun c16 => ?_)
      · have h := h.1 c16
        exact (u_X1_cell_38 hB h).weak ⟨rfl, rfl, rfl, trivial⟩
      · have h := h.2 c16
        exact (u_X1_cell_34 hB h).weak ⟨rfl, rfl, rfl, trivial⟩
/-! SchemaPascal.out(I)I -/
theorem zm_25 {σ : Nat → Nat} {n0 : Nat} {bf : ab_B} : ab_code (zx σ n0 bf).1 25 = prog_1_method_26_code := rfl
theorem zq_25 {σ : Nat → Nat} {n0 : Nat} {bf : ab_B} : ab_maxL (zx σ n0 bf).1 25 = 2 := rfl
theorem zr_25 {σ : Nat → Nat} {n0 : Nat} {bf : ab_B} : ab_ret (zx σ n0 bf).1 25 = (Option.some Jvm.ClassFile.FieldType.int) := rfl
theorem d_25_0 {σ : Nat → Nat} {n0 : Nat} {bf : ab_B} : decode (ab_code (zx σ n0 bf).1 25) 0 = .ok (.iload_n 1, 1) := zd zm_25 (by decide +kernel)
theorem d_25_1 {σ : Nat → Nat} {n0 : Nat} {bf : ab_B} : decode (ab_code (zx σ n0 bf).1 25) 1 = .ok (.ifCond .lt 25, 3) := zd zm_25 (by decide +kernel)
theorem d_25_4 {σ : Nat → Nat} {n0 : Nat} {bf : ab_B} : decode (ab_code (zx σ n0 bf).1 25) 4 = .ok (.iload_n 1, 1) := zd zm_25 (by decide +kernel)
theorem d_25_5 {σ : Nat → Nat} {n0 : Nat} {bf : ab_B} : decode (ab_code (zx σ n0 bf).1 25) 5 = .ok (.sipush 20000, 3) := zd zm_25 (by decide +kernel)
theorem d_25_8 {σ : Nat → Nat} {n0 : Nat} {bf : ab_B} : decode (ab_code (zx σ n0 bf).1 25) 8 = .ok (.if_icmp .ge 18, 3) := zd zm_25 (by decide +kernel)
theorem d_25_11 {σ : Nat → Nat} {n0 : Nat} {bf : ab_B} : decode (ab_code (zx σ n0 bf).1 25) 11 = .ok (.iload_n 1, 1) := zd zm_25 (by decide +kernel)
theorem d_25_12 {σ : Nat → Nat} {n0 : Nat} {bf : ab_B} : decode (ab_code (zx σ n0 bf).1 25) 12 = .ok (.aload_n 0, 1) := zd zm_25 (by decide +kernel)
theorem d_25_13 {σ : Nat → Nat} {n0 : Nat} {bf : ab_B} : decode (ab_code (zx σ n0 bf).1 25) 13 = .ok (.getfield 39, 3) := zd zm_25 (by decide +kernel)
theorem d_25_16 {σ : Nat → Nat} {n0 : Nat} {bf : ab_B} : decode (ab_code (zx σ n0 bf).1 25) 16 = .ok (.getfield 94, 3) := zd zm_25 (by decide +kernel)
theorem d_25_19 {σ : Nat → Nat} {n0 : Nat} {bf : ab_B} : decode (ab_code (zx σ n0 bf).1 25) 19 = .ok (.if_icmp .ge 7, 3) := zd zm_25 (by decide +kernel)
theorem d_25_22 {σ : Nat → Nat} {n0 : Nat} {bf : ab_B} : decode (ab_code (zx σ n0 bf).1 25) 22 = .ok (.iconst 1, 1) := zd zm_25 (by decide +kernel)
theorem d_25_23 {σ : Nat → Nat} {n0 : Nat} {bf : ab_B} : decode (ab_code (zx σ n0 bf).1 25) 23 = .ok (.goto 4, 3) := zd zm_25 (by decide +kernel)
theorem d_25_26 {σ : Nat → Nat} {n0 : Nat} {bf : ab_B} : decode (ab_code (zx σ n0 bf).1 25) 26 = .ok (.iconst 0, 1) := zd zm_25 (by decide +kernel)
theorem d_25_27 {σ : Nat → Nat} {n0 : Nat} {bf : ab_B} : decode (ab_code (zx σ n0 bf).1 25) 27 = .ok (.invokestatic 163, 3) := zd zm_25 (by decide +kernel)
theorem d_25_30 {σ : Nat → Nat} {n0 : Nat} {bf : ab_B} : decode (ab_code (zx σ n0 bf).1 25) 30 = .ok (.aload_n 0, 1) := zd zm_25 (by decide +kernel)
theorem d_25_31 {σ : Nat → Nat} {n0 : Nat} {bf : ab_B} : decode (ab_code (zx σ n0 bf).1 25) 31 = .ok (.getfield 39, 3) := zd zm_25 (by decide +kernel)
theorem d_25_34 {σ : Nat → Nat} {n0 : Nat} {bf : ab_B} : decode (ab_code (zx σ n0 bf).1 25) 34 = .ok (.getfield 250, 3) := zd zm_25 (by decide +kernel)
theorem d_25_37 {σ : Nat → Nat} {n0 : Nat} {bf : ab_B} : decode (ab_code (zx σ n0 bf).1 25) 37 = .ok (.iload_n 1, 1) := zd zm_25 (by decide +kernel)
theorem d_25_38 {σ : Nat → Nat} {n0 : Nat} {bf : ab_B} : decode (ab_code (zx σ n0 bf).1 25) 38 = .ok (.baload, 1) := zd zm_25 (by decide +kernel)
theorem d_25_39 {σ : Nat → Nat} {n0 : Nat} {bf : ab_B} : decode (ab_code (zx σ n0 bf).1 25) 39 = .ok (.sipush 255, 3) := zd zm_25 (by decide +kernel)
theorem d_25_42 {σ : Nat → Nat} {n0 : Nat} {bf : ab_B} : decode (ab_code (zx σ n0 bf).1 25) 42 = .ok (.iand, 1) := zd zm_25 (by decide +kernel)
theorem d_25_43 {σ : Nat → Nat} {n0 : Nat} {bf : ab_B} : decode (ab_code (zx σ n0 bf).1 25) 43 = .ok (.ireturn, 1) := zd zm_25 (by decide +kernel)
def w_X1_out_27 (X : zs_X) (d : Nat) (p0 : Nat) (p1 : Int32) (q0 : Int32) (S : zs_T) (Q : zs_Q) : Prop :=
  (zs_C X d 17 [.int q0] S (zs_kV (fun S1 => (zs_K S1 p0 = some (.inl 0) ∧ ∃ b4, (zs_R S1 3 p0) = some b4 ∧ zs_K S1 b4 = some (.inl 1) ∧ ∃ b7, (zs_R S1 1040 b4) = some b7 ∧ zs_A S1 b7 1 p1 ∧ Q (.returned (some (.int ((zs_i S1 b7 p1.toNatClampNeg) &&& (255 : Int32))))) S1)) Q))
theorem u_X1_out_27 {σ : Nat → Nat} {n0 : Nat} {bf : ab_B} {d : Nat} {p0 : Nat} {p1 : Int32} {q0 : Int32} {S : zs_T} {Q : zs_Q} (hB : zt_B bf) (h : w_X1_out_27 (zx σ n0 bf) d p0 p1 q0 S Q) : zs_U (zx σ n0 bf) d 25 27 [(0, .ref p0), (1, .int p1)] [.int q0] S Q := by
  unfold w_X1_out_27 at h
  refine zc_0_163 (x0 := q0) hB rfl d_25_27 (Nat.le_of_ble_eq_true rfl) h (fun S1 h => ?_)
  refine zu_aload_n d_25_30 rfl (zs_ra _) ?_
  obtain ⟨k3, h⟩ := h
  refine zg_0_39 rfl d_25_31 k3 ?_
  obtain ⟨b4, e5, h⟩ := h
  refine zs_stk0 (zs_rfe e5) ?_
  obtain ⟨k6, h⟩ := h
  refine zg_0_250 rfl d_25_34 k6 ?_
  refine zu_iload_n d_25_37 rfl ?_
  obtain ⟨b7, e8, h⟩ := h
  refine zs_stk1 (zs_rfe e8) ?_
  obtain ⟨k9, h⟩ := h
  refine zu_bald (k := 1) d_25_38 rfl (Or.inl rfl) k9 ?_
  refine zu_sipush d_25_39 zh_255 ?_
  refine zu_stk d_25_42 rfl rfl ?_
  exact zu_iret d_25_43 zr_25 rfl h
def w_X1_out_26 (X : zs_X) (d : Nat) (p0 : Nat) (p1 : Int32) (S : zs_T) (Q : zs_Q) : Prop :=
  (w_X1_out_27 X d p0 p1 (0 : Int32) S Q)
theorem u_X1_out_26 {σ : Nat → Nat} {n0 : Nat} {bf : ab_B} {d : Nat} {p0 : Nat} {p1 : Int32} {S : zs_T} {Q : zs_Q} (hB : zt_B bf) (h : w_X1_out_26 (zx σ n0 bf) d p0 p1 S Q) : zs_U (zx σ n0 bf) d 25 26 [(0, .ref p0), (1, .int p1)] [] S Q := by
  unfold w_X1_out_26 at h
  refine zu_iconst d_25_26 zi_0 ?_
  exact (u_X1_out_27 hB h).weak ⟨rfl, rfl, trivial⟩
def w_X1_out (X : zs_X) (d : Nat) (p0 : Nat) (p1 : Int32) (S : zs_T) (Q : zs_Q) : Prop :=
  (((p1 < 0 → w_X1_out_26 X d p0 p1 S Q) ∧ (¬ (p1 < 0) → ((((20000 : Int32) ≤ p1 → w_X1_out_26 X d p0 p1 S Q) ∧ (¬ ((20000 : Int32) ≤ p1) → (zs_K S p0 = some (.inl 0) ∧ ∃ b4, (zs_R S 3 p0) = some b4 ∧ zs_K S b4 = some (.inl 1) ∧ (((zs_I S 1041 b4) ≤ p1 → w_X1_out_26 X d p0 p1 S Q) ∧ (¬ ((zs_I S 1041 b4) ≤ p1) → (w_X1_out_27 X d p0 p1 (1 : Int32) S Q))))))))))
theorem u_X1_out {σ : Nat → Nat} {n0 : Nat} {bf : ab_B} {d : Nat} {p0 : Nat} {p1 : Int32} {S : zs_T} {Q : zs_Q} (hB : zt_B bf) (hd : 1 ≤ d) (h : w_X1_out (zx σ n0 bf) (d - 1) p0 p1 S Q) : zs_C (zx σ n0 bf) d 25 [.ref p0, .int p1] S Q := by
  have hL : lv_args 0 [.ref p0, .int p1] = [(0, .ref p0), (1, .int p1)] := rfl
  refine zs_C.of1 (hB.2 25 (by decide) (by decide)) hd (by rw [hL]; exact zs_sub_self _ (by exact ⟨rfl, rfl, trivial⟩)) ?_
  rw [hL]
  clear hL
  unfold w_X1_out at h
  refine zu_iload_n d_25_0 rfl ?_
  refine zu_iflt (t := 26) d_25_1 rfl (fun c1 => ?_) (fun c1 => ?_)
  · have h := h.1 c1
    exact (u_X1_out_26 hB h).weak ⟨rfl, rfl, trivial⟩
  · have h := h.2 c1
    refine zu_iload_n d_25_4 rfl ?_
    refine zu_sipush d_25_5 zh_20000 ?_
    refine zu_cmpge (t := 26) d_25_8 rfl (fun c2 => ?_) (fun c2 => ?_)
    · have h := h.1 c2
      exact (u_X1_out_26 hB h).weak ⟨rfl, rfl, trivial⟩
    · have h := h.2 c2
      refine zu_iload_n d_25_11 rfl ?_
      refine zu_aload_n d_25_12 rfl (zs_ra _) ?_
      obtain ⟨k3, h⟩ := h
      refine zg_0_39 rfl d_25_13 k3 ?_
      obtain ⟨b4, e5, h⟩ := h
      refine zs_stk0 (zs_rfe e5) ?_
      obtain ⟨k6, h⟩ := h
      refine zg_0_94 rfl d_25_16 k6 ?_
      refine zu_cmpge (t := 26) d_25_19 rfl (fun c7 => ?_) (fun c7 => ?_)
      · have h := h.1 c7
        exact (u_X1_out_26 hB h).weak ⟨rfl, rfl, trivial⟩
      · have h := h.2 c7
        refine zu_iconst d_25_22 zi_1 ?_
        refine zu_goto (t := 27) d_25_23 rfl ?_
        exact (u_X1_out_27 hB h).weak ⟨rfl, rfl, trivial⟩
/-! SchemaPascal$Machine.<init>()V -/
theorem zm_1000 {σ : Nat → Nat} {n0 : Nat} {bf : ab_B} : ab_code (zx σ n0 bf).1 1000 = prog_5_method_1_code := rfl
theorem zq_1000 {σ : Nat → Nat} {n0 : Nat} {bf : ab_B} : ab_maxL (zx σ n0 bf).1 1000 = 1 := rfl
theorem zr_1000 {σ : Nat → Nat} {n0 : Nat} {bf : ab_B} : ab_ret (zx σ n0 bf).1 1000 = (Option.none : Option Jvm.ClassFile.FieldType) := rfl
theorem d_1000_0 {σ : Nat → Nat} {n0 : Nat} {bf : ab_B} : decode (ab_code (zx σ n0 bf).1 1000) 0 = .ok (.aload_n 0, 1) := zd zm_1000 (by decide +kernel)
theorem d_1000_1 {σ : Nat → Nat} {n0 : Nat} {bf : ab_B} : decode (ab_code (zx σ n0 bf).1 1000) 1 = .ok (.invokespecial 3, 3) := zd zm_1000 (by decide +kernel)
theorem d_1000_4 {σ : Nat → Nat} {n0 : Nat} {bf : ab_B} : decode (ab_code (zx σ n0 bf).1 1000) 4 = .ok (.aload_n 0, 1) := zd zm_1000 (by decide +kernel)
theorem d_1000_5 {σ : Nat → Nat} {n0 : Nat} {bf : ab_B} : decode (ab_code (zx σ n0 bf).1 1000) 5 = .ok (.ldc 9, 2) := zd zm_1000 (by decide +kernel)
theorem d_1000_7 {σ : Nat → Nat} {n0 : Nat} {bf : ab_B} : decode (ab_code (zx σ n0 bf).1 1000) 7 = .ok (.newarray .long, 2) := zd zm_1000 (by decide +kernel)
theorem d_1000_9 {σ : Nat → Nat} {n0 : Nat} {bf : ab_B} : decode (ab_code (zx σ n0 bf).1 1000) 9 = .ok (.putfield 10, 3) := zd zm_1000 (by decide +kernel)
theorem d_1000_12 {σ : Nat → Nat} {n0 : Nat} {bf : ab_B} : decode (ab_code (zx σ n0 bf).1 1000) 12 = .ok (.aload_n 0, 1) := zd zm_1000 (by decide +kernel)
theorem d_1000_13 {σ : Nat → Nat} {n0 : Nat} {bf : ab_B} : decode (ab_code (zx σ n0 bf).1 1000) 13 = .ok (.ldc 16, 2) := zd zm_1000 (by decide +kernel)
theorem d_1000_15 {σ : Nat → Nat} {n0 : Nat} {bf : ab_B} : decode (ab_code (zx σ n0 bf).1 1000) 15 = .ok (.newarray .boolean, 2) := zd zm_1000 (by decide +kernel)
theorem d_1000_17 {σ : Nat → Nat} {n0 : Nat} {bf : ab_B} : decode (ab_code (zx σ n0 bf).1 1000) 17 = .ok (.putfield 17, 3) := zd zm_1000 (by decide +kernel)
theorem d_1000_20 {σ : Nat → Nat} {n0 : Nat} {bf : ab_B} : decode (ab_code (zx σ n0 bf).1 1000) 20 = .ok (.aload_n 0, 1) := zd zm_1000 (by decide +kernel)
theorem d_1000_21 {σ : Nat → Nat} {n0 : Nat} {bf : ab_B} : decode (ab_code (zx σ n0 bf).1 1000) 21 = .ok (.ldc 16, 2) := zd zm_1000 (by decide +kernel)
theorem d_1000_23 {σ : Nat → Nat} {n0 : Nat} {bf : ab_B} : decode (ab_code (zx σ n0 bf).1 1000) 23 = .ok (.newarray .int, 2) := zd zm_1000 (by decide +kernel)
theorem d_1000_25 {σ : Nat → Nat} {n0 : Nat} {bf : ab_B} : decode (ab_code (zx σ n0 bf).1 1000) 25 = .ok (.putfield 21, 3) := zd zm_1000 (by decide +kernel)
theorem d_1000_28 {σ : Nat → Nat} {n0 : Nat} {bf : ab_B} : decode (ab_code (zx σ n0 bf).1 1000) 28 = .ok (.aload_n 0, 1) := zd zm_1000 (by decide +kernel)
theorem d_1000_29 {σ : Nat → Nat} {n0 : Nat} {bf : ab_B} : decode (ab_code (zx σ n0 bf).1 1000) 29 = .ok (.new 25, 3) := zd zm_1000 (by decide +kernel)
theorem d_1000_32 {σ : Nat → Nat} {n0 : Nat} {bf : ab_B} : decode (ab_code (zx σ n0 bf).1 1000) 32 = .ok (.dup, 1) := zd zm_1000 (by decide +kernel)
theorem d_1000_33 {σ : Nat → Nat} {n0 : Nat} {bf : ab_B} : decode (ab_code (zx σ n0 bf).1 1000) 33 = .ok (.aload_n 0, 1) := zd zm_1000 (by decide +kernel)
theorem d_1000_34 {σ : Nat → Nat} {n0 : Nat} {bf : ab_B} : decode (ab_code (zx σ n0 bf).1 1000) 34 = .ok (.getfield 10, 3) := zd zm_1000 (by decide +kernel)
theorem d_1000_37 {σ : Nat → Nat} {n0 : Nat} {bf : ab_B} : decode (ab_code (zx σ n0 bf).1 1000) 37 = .ok (.ldc 27, 2) := zd zm_1000 (by decide +kernel)
theorem d_1000_39 {σ : Nat → Nat} {n0 : Nat} {bf : ab_B} : decode (ab_code (zx σ n0 bf).1 1000) 39 = .ok (.invokespecial 28, 3) := zd zm_1000 (by decide +kernel)
theorem d_1000_42 {σ : Nat → Nat} {n0 : Nat} {bf : ab_B} : decode (ab_code (zx σ n0 bf).1 1000) 42 = .ok (.putfield 31, 3) := zd zm_1000 (by decide +kernel)
theorem d_1000_45 {σ : Nat → Nat} {n0 : Nat} {bf : ab_B} : decode (ab_code (zx σ n0 bf).1 1000) 45 = .ok (.aload_n 0, 1) := zd zm_1000 (by decide +kernel)
theorem d_1000_46 {σ : Nat → Nat} {n0 : Nat} {bf : ab_B} : decode (ab_code (zx σ n0 bf).1 1000) 46 = .ok (.ldc 35, 2) := zd zm_1000 (by decide +kernel)
theorem d_1000_48 {σ : Nat → Nat} {n0 : Nat} {bf : ab_B} : decode (ab_code (zx σ n0 bf).1 1000) 48 = .ok (.newarray .long, 2) := zd zm_1000 (by decide +kernel)
theorem d_1000_50 {σ : Nat → Nat} {n0 : Nat} {bf : ab_B} : decode (ab_code (zx σ n0 bf).1 1000) 50 = .ok (.putfield 36, 3) := zd zm_1000 (by decide +kernel)
theorem d_1000_53 {σ : Nat → Nat} {n0 : Nat} {bf : ab_B} : decode (ab_code (zx σ n0 bf).1 1000) 53 = .ok (.aload_n 0, 1) := zd zm_1000 (by decide +kernel)
theorem d_1000_54 {σ : Nat → Nat} {n0 : Nat} {bf : ab_B} : decode (ab_code (zx σ n0 bf).1 1000) 54 = .ok (.ldc 35, 2) := zd zm_1000 (by decide +kernel)
theorem d_1000_56 {σ : Nat → Nat} {n0 : Nat} {bf : ab_B} : decode (ab_code (zx σ n0 bf).1 1000) 56 = .ok (.newarray .int, 2) := zd zm_1000 (by decide +kernel)
theorem d_1000_58 {σ : Nat → Nat} {n0 : Nat} {bf : ab_B} : decode (ab_code (zx σ n0 bf).1 1000) 58 = .ok (.putfield 39, 3) := zd zm_1000 (by decide +kernel)
theorem d_1000_61 {σ : Nat → Nat} {n0 : Nat} {bf : ab_B} : decode (ab_code (zx σ n0 bf).1 1000) 61 = .ok (.aload_n 0, 1) := zd zm_1000 (by decide +kernel)
theorem d_1000_62 {σ : Nat → Nat} {n0 : Nat} {bf : ab_B} : decode (ab_code (zx σ n0 bf).1 1000) 62 = .ok (.sipush 20081, 3) := zd zm_1000 (by decide +kernel)
theorem d_1000_65 {σ : Nat → Nat} {n0 : Nat} {bf : ab_B} : decode (ab_code (zx σ n0 bf).1 1000) 65 = .ok (.newarray .byte, 2) := zd zm_1000 (by decide +kernel)
theorem d_1000_67 {σ : Nat → Nat} {n0 : Nat} {bf : ab_B} : decode (ab_code (zx σ n0 bf).1 1000) 67 = .ok (.putfield 42, 3) := zd zm_1000 (by decide +kernel)
theorem d_1000_70 {σ : Nat → Nat} {n0 : Nat} {bf : ab_B} : decode (ab_code (zx σ n0 bf).1 1000) 70 = .ok (.aload_n 0, 1) := zd zm_1000 (by decide +kernel)
theorem d_1000_71 {σ : Nat → Nat} {n0 : Nat} {bf : ab_B} : decode (ab_code (zx σ n0 bf).1 1000) 71 = .ok (.ldc 35, 2) := zd zm_1000 (by decide +kernel)
theorem d_1000_73 {σ : Nat → Nat} {n0 : Nat} {bf : ab_B} : decode (ab_code (zx σ n0 bf).1 1000) 73 = .ok (.newarray .int, 2) := zd zm_1000 (by decide +kernel)
theorem d_1000_75 {σ : Nat → Nat} {n0 : Nat} {bf : ab_B} : decode (ab_code (zx σ n0 bf).1 1000) 75 = .ok (.putfield 46, 3) := zd zm_1000 (by decide +kernel)
theorem d_1000_78 {σ : Nat → Nat} {n0 : Nat} {bf : ab_B} : decode (ab_code (zx σ n0 bf).1 1000) 78 = .ok (.aload_n 0, 1) := zd zm_1000 (by decide +kernel)
theorem d_1000_79 {σ : Nat → Nat} {n0 : Nat} {bf : ab_B} : decode (ab_code (zx σ n0 bf).1 1000) 79 = .ok (.sipush 20001, 3) := zd zm_1000 (by decide +kernel)
theorem d_1000_82 {σ : Nat → Nat} {n0 : Nat} {bf : ab_B} : decode (ab_code (zx σ n0 bf).1 1000) 82 = .ok (.newarray .int, 2) := zd zm_1000 (by decide +kernel)
theorem d_1000_84 {σ : Nat → Nat} {n0 : Nat} {bf : ab_B} : decode (ab_code (zx σ n0 bf).1 1000) 84 = .ok (.putfield 49, 3) := zd zm_1000 (by decide +kernel)
theorem d_1000_87 {σ : Nat → Nat} {n0 : Nat} {bf : ab_B} : decode (ab_code (zx σ n0 bf).1 1000) 87 = .ok (.aload_n 0, 1) := zd zm_1000 (by decide +kernel)
theorem d_1000_88 {σ : Nat → Nat} {n0 : Nat} {bf : ab_B} : decode (ab_code (zx σ n0 bf).1 1000) 88 = .ok (.sipush 20001, 3) := zd zm_1000 (by decide +kernel)
theorem d_1000_91 {σ : Nat → Nat} {n0 : Nat} {bf : ab_B} : decode (ab_code (zx σ n0 bf).1 1000) 91 = .ok (.newarray .int, 2) := zd zm_1000 (by decide +kernel)
theorem d_1000_93 {σ : Nat → Nat} {n0 : Nat} {bf : ab_B} : decode (ab_code (zx σ n0 bf).1 1000) 93 = .ok (.putfield 52, 3) := zd zm_1000 (by decide +kernel)
theorem d_1000_96 {σ : Nat → Nat} {n0 : Nat} {bf : ab_B} : decode (ab_code (zx σ n0 bf).1 1000) 96 = .ok (.aload_n 0, 1) := zd zm_1000 (by decide +kernel)
theorem d_1000_97 {σ : Nat → Nat} {n0 : Nat} {bf : ab_B} : decode (ab_code (zx σ n0 bf).1 1000) 97 = .ok (.bipush 101, 2) := zd zm_1000 (by decide +kernel)
theorem d_1000_99 {σ : Nat → Nat} {n0 : Nat} {bf : ab_B} : decode (ab_code (zx σ n0 bf).1 1000) 99 = .ok (.anewarray 55, 3) := zd zm_1000 (by decide +kernel)
theorem d_1000_102 {σ : Nat → Nat} {n0 : Nat} {bf : ab_B} : decode (ab_code (zx σ n0 bf).1 1000) 102 = .ok (.putfield 57, 3) := zd zm_1000 (by decide +kernel)
theorem d_1000_105 {σ : Nat → Nat} {n0 : Nat} {bf : ab_B} : decode (ab_code (zx σ n0 bf).1 1000) 105 = .ok (.aload_n 0, 1) := zd zm_1000 (by decide +kernel)
theorem d_1000_106 {σ : Nat → Nat} {n0 : Nat} {bf : ab_B} : decode (ab_code (zx σ n0 bf).1 1000) 106 = .ok (.bipush 101, 2) := zd zm_1000 (by decide +kernel)
theorem d_1000_108 {σ : Nat → Nat} {n0 : Nat} {bf : ab_B} : decode (ab_code (zx σ n0 bf).1 1000) 108 = .ok (.newarray .int, 2) := zd zm_1000 (by decide +kernel)
theorem d_1000_110 {σ : Nat → Nat} {n0 : Nat} {bf : ab_B} : decode (ab_code (zx σ n0 bf).1 1000) 110 = .ok (.putfield 61, 3) := zd zm_1000 (by decide +kernel)
theorem d_1000_113 {σ : Nat → Nat} {n0 : Nat} {bf : ab_B} : decode (ab_code (zx σ n0 bf).1 1000) 113 = .ok (.aload_n 0, 1) := zd zm_1000 (by decide +kernel)
theorem d_1000_114 {σ : Nat → Nat} {n0 : Nat} {bf : ab_B} : decode (ab_code (zx σ n0 bf).1 1000) 114 = .ok (.bipush 101, 2) := zd zm_1000 (by decide +kernel)
theorem d_1000_116 {σ : Nat → Nat} {n0 : Nat} {bf : ab_B} : decode (ab_code (zx σ n0 bf).1 1000) 116 = .ok (.newarray .int, 2) := zd zm_1000 (by decide +kernel)
theorem d_1000_118 {σ : Nat → Nat} {n0 : Nat} {bf : ab_B} : decode (ab_code (zx σ n0 bf).1 1000) 118 = .ok (.putfield 64, 3) := zd zm_1000 (by decide +kernel)
theorem d_1000_121 {σ : Nat → Nat} {n0 : Nat} {bf : ab_B} : decode (ab_code (zx σ n0 bf).1 1000) 121 = .ok (.aload_n 0, 1) := zd zm_1000 (by decide +kernel)
theorem d_1000_122 {σ : Nat → Nat} {n0 : Nat} {bf : ab_B} : decode (ab_code (zx σ n0 bf).1 1000) 122 = .ok (.bipush 101, 2) := zd zm_1000 (by decide +kernel)
theorem d_1000_124 {σ : Nat → Nat} {n0 : Nat} {bf : ab_B} : decode (ab_code (zx σ n0 bf).1 1000) 124 = .ok (.newarray .int, 2) := zd zm_1000 (by decide +kernel)
theorem d_1000_126 {σ : Nat → Nat} {n0 : Nat} {bf : ab_B} : decode (ab_code (zx σ n0 bf).1 1000) 126 = .ok (.putfield 67, 3) := zd zm_1000 (by decide +kernel)
theorem d_1000_129 {σ : Nat → Nat} {n0 : Nat} {bf : ab_B} : decode (ab_code (zx σ n0 bf).1 1000) 129 = .ok (.aload_n 0, 1) := zd zm_1000 (by decide +kernel)
theorem d_1000_130 {σ : Nat → Nat} {n0 : Nat} {bf : ab_B} : decode (ab_code (zx σ n0 bf).1 1000) 130 = .ok (.bipush 101, 2) := zd zm_1000 (by decide +kernel)
theorem d_1000_132 {σ : Nat → Nat} {n0 : Nat} {bf : ab_B} : decode (ab_code (zx σ n0 bf).1 1000) 132 = .ok (.newarray .int, 2) := zd zm_1000 (by decide +kernel)
theorem d_1000_134 {σ : Nat → Nat} {n0 : Nat} {bf : ab_B} : decode (ab_code (zx σ n0 bf).1 1000) 134 = .ok (.putfield 70, 3) := zd zm_1000 (by decide +kernel)
theorem d_1000_137 {σ : Nat → Nat} {n0 : Nat} {bf : ab_B} : decode (ab_code (zx σ n0 bf).1 1000) 137 = .ok (.aload_n 0, 1) := zd zm_1000 (by decide +kernel)
theorem d_1000_138 {σ : Nat → Nat} {n0 : Nat} {bf : ab_B} : decode (ab_code (zx σ n0 bf).1 1000) 138 = .ok (.bipush 101, 2) := zd zm_1000 (by decide +kernel)
theorem d_1000_140 {σ : Nat → Nat} {n0 : Nat} {bf : ab_B} : decode (ab_code (zx σ n0 bf).1 1000) 140 = .ok (.newarray .int, 2) := zd zm_1000 (by decide +kernel)
theorem d_1000_142 {σ : Nat → Nat} {n0 : Nat} {bf : ab_B} : decode (ab_code (zx σ n0 bf).1 1000) 142 = .ok (.putfield 73, 3) := zd zm_1000 (by decide +kernel)
theorem d_1000_145 {σ : Nat → Nat} {n0 : Nat} {bf : ab_B} : decode (ab_code (zx σ n0 bf).1 1000) 145 = .ok (.aload_n 0, 1) := zd zm_1000 (by decide +kernel)
theorem d_1000_146 {σ : Nat → Nat} {n0 : Nat} {bf : ab_B} : decode (ab_code (zx σ n0 bf).1 1000) 146 = .ok (.bipush 101, 2) := zd zm_1000 (by decide +kernel)
theorem d_1000_148 {σ : Nat → Nat} {n0 : Nat} {bf : ab_B} : decode (ab_code (zx σ n0 bf).1 1000) 148 = .ok (.newarray .int, 2) := zd zm_1000 (by decide +kernel)
theorem d_1000_150 {σ : Nat → Nat} {n0 : Nat} {bf : ab_B} : decode (ab_code (zx σ n0 bf).1 1000) 150 = .ok (.putfield 76, 3) := zd zm_1000 (by decide +kernel)
theorem d_1000_153 {σ : Nat → Nat} {n0 : Nat} {bf : ab_B} : decode (ab_code (zx σ n0 bf).1 1000) 153 = .ok (.aload_n 0, 1) := zd zm_1000 (by decide +kernel)
theorem d_1000_154 {σ : Nat → Nat} {n0 : Nat} {bf : ab_B} : decode (ab_code (zx σ n0 bf).1 1000) 154 = .ok (.bipush 101, 2) := zd zm_1000 (by decide +kernel)
theorem d_1000_156 {σ : Nat → Nat} {n0 : Nat} {bf : ab_B} : decode (ab_code (zx σ n0 bf).1 1000) 156 = .ok (.newarray .int, 2) := zd zm_1000 (by decide +kernel)
theorem d_1000_158 {σ : Nat → Nat} {n0 : Nat} {bf : ab_B} : decode (ab_code (zx σ n0 bf).1 1000) 158 = .ok (.putfield 79, 3) := zd zm_1000 (by decide +kernel)
theorem d_1000_161 {σ : Nat → Nat} {n0 : Nat} {bf : ab_B} : decode (ab_code (zx σ n0 bf).1 1000) 161 = .ok (.aload_n 0, 1) := zd zm_1000 (by decide +kernel)
theorem d_1000_162 {σ : Nat → Nat} {n0 : Nat} {bf : ab_B} : decode (ab_code (zx σ n0 bf).1 1000) 162 = .ok (.sipush 20001, 3) := zd zm_1000 (by decide +kernel)
theorem d_1000_165 {σ : Nat → Nat} {n0 : Nat} {bf : ab_B} : decode (ab_code (zx σ n0 bf).1 1000) 165 = .ok (.newarray .int, 2) := zd zm_1000 (by decide +kernel)
theorem d_1000_167 {σ : Nat → Nat} {n0 : Nat} {bf : ab_B} : decode (ab_code (zx σ n0 bf).1 1000) 167 = .ok (.putfield 82, 3) := zd zm_1000 (by decide +kernel)
theorem d_1000_170 {σ : Nat → Nat} {n0 : Nat} {bf : ab_B} : decode (ab_code (zx σ n0 bf).1 1000) 170 = .ok (.aload_n 0, 1) := zd zm_1000 (by decide +kernel)
theorem d_1000_171 {σ : Nat → Nat} {n0 : Nat} {bf : ab_B} : decode (ab_code (zx σ n0 bf).1 1000) 171 = .ok (.sipush 20001, 3) := zd zm_1000 (by decide +kernel)
theorem d_1000_174 {σ : Nat → Nat} {n0 : Nat} {bf : ab_B} : decode (ab_code (zx σ n0 bf).1 1000) 174 = .ok (.newarray .int, 2) := zd zm_1000 (by decide +kernel)
theorem d_1000_176 {σ : Nat → Nat} {n0 : Nat} {bf : ab_B} : decode (ab_code (zx σ n0 bf).1 1000) 176 = .ok (.putfield 85, 3) := zd zm_1000 (by decide +kernel)
theorem d_1000_179 {σ : Nat → Nat} {n0 : Nat} {bf : ab_B} : decode (ab_code (zx σ n0 bf).1 1000) 179 = .ok (.aload_n 0, 1) := zd zm_1000 (by decide +kernel)
theorem d_1000_180 {σ : Nat → Nat} {n0 : Nat} {bf : ab_B} : decode (ab_code (zx σ n0 bf).1 1000) 180 = .ok (.sipush 20001, 3) := zd zm_1000 (by decide +kernel)
theorem d_1000_183 {σ : Nat → Nat} {n0 : Nat} {bf : ab_B} : decode (ab_code (zx σ n0 bf).1 1000) 183 = .ok (.newarray .boolean, 2) := zd zm_1000 (by decide +kernel)
theorem d_1000_185 {σ : Nat → Nat} {n0 : Nat} {bf : ab_B} : decode (ab_code (zx σ n0 bf).1 1000) 185 = .ok (.putfield 88, 3) := zd zm_1000 (by decide +kernel)
theorem d_1000_188 {σ : Nat → Nat} {n0 : Nat} {bf : ab_B} : decode (ab_code (zx σ n0 bf).1 1000) 188 = .ok (.aload_n 0, 1) := zd zm_1000 (by decide +kernel)
theorem d_1000_189 {σ : Nat → Nat} {n0 : Nat} {bf : ab_B} : decode (ab_code (zx σ n0 bf).1 1000) 189 = .ok (.sipush 20001, 3) := zd zm_1000 (by decide +kernel)
theorem d_1000_192 {σ : Nat → Nat} {n0 : Nat} {bf : ab_B} : decode (ab_code (zx σ n0 bf).1 1000) 192 = .ok (.anewarray 91, 3) := zd zm_1000 (by decide +kernel)
theorem d_1000_195 {σ : Nat → Nat} {n0 : Nat} {bf : ab_B} : decode (ab_code (zx σ n0 bf).1 1000) 195 = .ok (.putfield 93, 3) := zd zm_1000 (by decide +kernel)
theorem d_1000_198 {σ : Nat → Nat} {n0 : Nat} {bf : ab_B} : decode (ab_code (zx σ n0 bf).1 1000) 198 = .ok (.aload_n 0, 1) := zd zm_1000 (by decide +kernel)
theorem d_1000_199 {σ : Nat → Nat} {n0 : Nat} {bf : ab_B} : decode (ab_code (zx σ n0 bf).1 1000) 199 = .ok (.iconst (-1), 1) := zd zm_1000 (by decide +kernel)
theorem d_1000_200 {σ : Nat → Nat} {n0 : Nat} {bf : ab_B} : decode (ab_code (zx σ n0 bf).1 1000) 200 = .ok (.putfield 97, 3) := zd zm_1000 (by decide +kernel)
theorem d_1000_203 {σ : Nat → Nat} {n0 : Nat} {bf : ab_B} : decode (ab_code (zx σ n0 bf).1 1000) 203 = .ok (.aload_n 0, 1) := zd zm_1000 (by decide +kernel)
theorem d_1000_204 {σ : Nat → Nat} {n0 : Nat} {bf : ab_B} : decode (ab_code (zx σ n0 bf).1 1000) 204 = .ok (.sipush 20000, 3) := zd zm_1000 (by decide +kernel)
theorem d_1000_207 {σ : Nat → Nat} {n0 : Nat} {bf : ab_B} : decode (ab_code (zx σ n0 bf).1 1000) 207 = .ok (.newarray .byte, 2) := zd zm_1000 (by decide +kernel)
theorem d_1000_209 {σ : Nat → Nat} {n0 : Nat} {bf : ab_B} : decode (ab_code (zx σ n0 bf).1 1000) 209 = .ok (.putfield 101, 3) := zd zm_1000 (by decide +kernel)
theorem d_1000_212 {σ : Nat → Nat} {n0 : Nat} {bf : ab_B} : decode (ab_code (zx σ n0 bf).1 1000) 212 = .ok (.aload_n 0, 1) := zd zm_1000 (by decide +kernel)
theorem d_1000_213 {σ : Nat → Nat} {n0 : Nat} {bf : ab_B} : decode (ab_code (zx σ n0 bf).1 1000) 213 = .ok (.sipush 1000, 3) := zd zm_1000 (by decide +kernel)
theorem d_1000_216 {σ : Nat → Nat} {n0 : Nat} {bf : ab_B} : decode (ab_code (zx σ n0 bf).1 1000) 216 = .ok (.newarray .long, 2) := zd zm_1000 (by decide +kernel)
theorem d_1000_218 {σ : Nat → Nat} {n0 : Nat} {bf : ab_B} : decode (ab_code (zx σ n0 bf).1 1000) 218 = .ok (.putfield 104, 3) := zd zm_1000 (by decide +kernel)
theorem d_1000_221 {σ : Nat → Nat} {n0 : Nat} {bf : ab_B} : decode (ab_code (zx σ n0 bf).1 1000) 221 = .ok (.return_, 1) := zd zm_1000 (by decide +kernel)
def w_X2_init_221 (X : zs_X) (d : Nat)  (S : zs_T) (Q : zs_Q) : Prop :=
  (Q (.returned none) S)
theorem u_X2_init_221 {σ : Nat → Nat} {n0 : Nat} {bf : ab_B} {d : Nat}  {S : zs_T} {Q : zs_Q} (hB : zt_B bf) (h : w_X2_init_221 (zx σ n0 bf) d  S Q) : zs_U (zx σ n0 bf) d 1000 221 [] [] S Q := by
  unfold w_X2_init_221 at h
  exact zu_vret d_1000_221 zr_1000 h
def w_X2_init_179 (X : zs_X) (d : Nat) (p0 : Nat) (S : zs_T) (Q : zs_Q) : Prop :=
  (∀ a1 S2, a1 = zs_N S → S2 = zs_nw S (.inr (2, (20001 : Int32).toNatClampNeg)) (20001 : Int32).toNatClampNeg → zs_K S2 p0 = some (.inl 1) ∧ ab_n0 X.1 ≤ p0 ∧ ∀ S8, S8 = zs_sR S2 1028 p0 (some a1) → ∀ a11 S12, a11 = zs_N S8 → S12 = zs_nw S8 (.inr (4, (20001 : Int32).toNatClampNeg)) (20001 : Int32).toNatClampNeg → zs_K S12 p0 = some (.inl 1) ∧ ∀ S17, S17 = zs_sR S12 1029 p0 (some a11) → ∀ S20, S20 = zs_sI S17 1037 p0 (-1 : Int32) → ∀ a23 S24, a23 = zs_N S20 → S24 = zs_nw S20 (.inr (1, (20000 : Int32).toNatClampNeg)) (20000 : Int32).toNatClampNeg → zs_K S24 p0 = some (.inl 1) ∧ ∀ S29, S29 = zs_sR S24 1040 p0 (some a23) → ∀ a32 S33, a32 = zs_N S29 → S33 = zs_nw S29 (.inr (3, (1000 : Int32).toNatClampNeg)) (1000 : Int32).toNatClampNeg → zs_K S33 p0 = some (.inl 1) ∧ ∀ S38, S38 = zs_sR S33 1042 p0 (some a32) → w_X2_init_221 X d  S38 Q)
theorem u_X2_init_179 {σ : Nat → Nat} {n0 : Nat} {bf : ab_B} {d : Nat} {p0 : Nat} {S : zs_T} {Q : zs_Q} (hB : zt_B bf) (h : w_X2_init_179 (zx σ n0 bf) d p0 S Q) : zs_U (zx σ n0 bf) d 1000 179 [(0, .ref p0)] [] S Q := by
  unfold w_X2_init_179 at h
  refine zu_aload_n d_1000_179 rfl (zs_ra _) ?_
  refine zu_sipush d_1000_180 zh_20001 ?_
  refine zu_newa0 (k := 2) d_1000_183 rfl rfl (fun _ => rfl) (by decide) (by decide) ?_
  generalize e4 : zs_nw S (.inr (2, (20001 : Int32).toNatClampNeg)) (20001 : Int32).toNatClampNeg = S2
  generalize e3 : zs_N S = a1
  have h := h a1 S2 e3.symm e4.symm
  have k5 := zs_kn e3 e4
  obtain ⟨k6, h⟩ := h
  obtain ⟨k7, h⟩ := h
  refine zp_1_88 (v := (some a1)) rfl d_1000_185 k6 k7 ?_
  generalize e9 : zs_sR S2 1028 p0 (some a1) = S8
  have h := h S8 e9.symm
  have K10 : ∀ b, zs_K S8 b = zs_K S2 b := zs_Kt e9 (zs_KsR _ _ _ _) (fun _ => rfl)
  refine zu_aload_n d_1000_188 rfl (zs_ra _) ?_
  refine zu_sipush d_1000_189 zh_20001 ?_
  refine zw_1_91 rfl d_1000_192 (by decide) (by decide) ?_
  generalize e14 : zs_nw S8 (.inr (4, (20001 : Int32).toNatClampNeg)) (20001 : Int32).toNatClampNeg = S12
  generalize e13 : zs_N S8 = a11
  have h := h a11 S12 e13.symm e14.symm
  have k15 := zs_kn e13 e14
  obtain ⟨k16, h⟩ := h
  refine zp_1_93 (v := (some a11)) rfl d_1000_195 k16 k7 ?_
  generalize e18 : zs_sR S12 1029 p0 (some a11) = S17
  have h := h S17 e18.symm
  have K19 : ∀ b, zs_K S17 b = zs_K S12 b := zs_Kt e18 (zs_KsR _ _ _ _) (fun _ => rfl)
  refine zu_aload_n d_1000_198 rfl (zs_ra _) ?_
  refine zu_iconst d_1000_199 zi_m1 ?_
  refine zp_1_97 (v := (-1 : Int32)) rfl d_1000_200 ((K19 _).trans k16) k7 ?_
  generalize e21 : zs_sI S17 1037 p0 (-1 : Int32) = S20
  have h := h S20 e21.symm
  have K22 : ∀ b, zs_K S20 b = zs_K S12 b := zs_Kt e21 (zs_KsI _ _ _ _) K19
  refine zu_aload_n d_1000_203 rfl (zs_ra _) ?_
  refine zu_sipush d_1000_204 zh_20000 ?_
  refine zu_newa0 (k := 1) d_1000_207 rfl rfl (fun _ => rfl) (by decide) (by decide) ?_
  generalize e26 : zs_nw S20 (.inr (1, (20000 : Int32).toNatClampNeg)) (20000 : Int32).toNatClampNeg = S24
  generalize e25 : zs_N S20 = a23
  have h := h a23 S24 e25.symm e26.symm
  have k27 := zs_kn e25 e26
  obtain ⟨k28, h⟩ := h
  refine zp_1_101 (v := (some a23)) rfl d_1000_209 k28 k7 ?_
  generalize e30 : zs_sR S24 1040 p0 (some a23) = S29
  have h := h S29 e30.symm
  have K31 : ∀ b, zs_K S29 b = zs_K S24 b := zs_Kt e30 (zs_KsR _ _ _ _) (fun _ => rfl)
  refine zu_aload_n d_1000_212 rfl (zs_ra _) ?_
  refine zu_sipush d_1000_213 zh_1000 ?_
  refine zu_newa1 (k := 3) d_1000_216 rfl rfl (fun _ => rfl) (by decide) (by decide) ?_
  generalize e35 : zs_nw S29 (.inr (3, (1000 : Int32).toNatClampNeg)) (1000 : Int32).toNatClampNeg = S33
  generalize e34 : zs_N S29 = a32
  have h := h a32 S33 e34.symm e35.symm
  have k36 := zs_kn e34 e35
  obtain ⟨k37, h⟩ := h
  refine zp_1_104 (v := (some a32)) rfl d_1000_218 k37 k7 ?_
  generalize e39 : zs_sR S33 1042 p0 (some a32) = S38
  have h := h S38 e39.symm
  have K40 : ∀ b, zs_K S38 b = zs_K S33 b := zs_Kt e39 (zs_KsR _ _ _ _) (fun _ => rfl)
  exact (u_X2_init_221 hB h).weak trivial
def w_X2_init_145 (X : zs_X) (d : Nat) (p0 : Nat) (S : zs_T) (Q : zs_Q) : Prop :=
  (∀ a1 S2, a1 = zs_N S → S2 = zs_nw S (.inr (0, (101 : Int32).toNatClampNeg)) (101 : Int32).toNatClampNeg → zs_K S2 p0 = some (.inl 1) ∧ ab_n0 X.1 ≤ p0 ∧ ∀ S8, S8 = zs_sR S2 1023 p0 (some a1) → ∀ a11 S12, a11 = zs_N S8 → S12 = zs_nw S8 (.inr (0, (101 : Int32).toNatClampNeg)) (101 : Int32).toNatClampNeg → zs_K S12 p0 = some (.inl 1) ∧ ∀ S17, S17 = zs_sR S12 1024 p0 (some a11) → ∀ a20 S21, a20 = zs_N S17 → S21 = zs_nw S17 (.inr (0, (20001 : Int32).toNatClampNeg)) (20001 : Int32).toNatClampNeg → zs_K S21 p0 = some (.inl 1) ∧ ∀ S26, S26 = zs_sR S21 1026 p0 (some a20) → ∀ a29 S30, a29 = zs_N S26 → S30 = zs_nw S26 (.inr (0, (20001 : Int32).toNatClampNeg)) (20001 : Int32).toNatClampNeg → zs_K S30 p0 = some (.inl 1) ∧ ∀ S35, S35 = zs_sR S30 1027 p0 (some a29) → w_X2_init_179 X d p0 S35 Q)
theorem u_X2_init_145 {σ : Nat → Nat} {n0 : Nat} {bf : ab_B} {d : Nat} {p0 : Nat} {S : zs_T} {Q : zs_Q} (hB : zt_B bf) (h : w_X2_init_145 (zx σ n0 bf) d p0 S Q) : zs_U (zx σ n0 bf) d 1000 145 [(0, .ref p0)] [] S Q := by
  unfold w_X2_init_145 at h
  refine zu_aload_n d_1000_145 rfl (zs_ra _) ?_
  refine zu_bipush d_1000_146 zj_101 ?_
  refine zu_newa0 (k := 0) d_1000_148 rfl rfl (fun _ => rfl) (by decide) (by decide) ?_
  generalize e4 : zs_nw S (.inr (0, (101 : Int32).toNatClampNeg)) (101 : Int32).toNatClampNeg = S2
  generalize e3 : zs_N S = a1
  have h := h a1 S2 e3.symm e4.symm
  have k5 := zs_kn e3 e4
  obtain ⟨k6, h⟩ := h
  obtain ⟨k7, h⟩ := h
  refine zp_1_76 (v := (some a1)) rfl d_1000_150 k6 k7 ?_
  generalize e9 : zs_sR S2 1023 p0 (some a1) = S8
  have h := h S8 e9.symm
  have K10 : ∀ b, zs_K S8 b = zs_K S2 b := zs_Kt e9 (zs_KsR _ _ _ _) (fun _ => rfl)
  refine zu_aload_n d_1000_153 rfl (zs_ra _) ?_
  refine zu_bipush d_1000_154 zj_101 ?_
  refine zu_newa0 (k := 0) d_1000_156 rfl rfl (fun _ => rfl) (by decide) (by decide) ?_
  generalize e14 : zs_nw S8 (.inr (0, (101 : Int32).toNatClampNeg)) (101 : Int32).toNatClampNeg = S12
  generalize e13 : zs_N S8 = a11
  have h := h a11 S12 e13.symm e14.symm
  have k15 := zs_kn e13 e14
  obtain ⟨k16, h⟩ := h
  refine zp_1_79 (v := (some a11)) rfl d_1000_158 k16 k7 ?_
  generalize e18 : zs_sR S12 1024 p0 (some a11) = S17
  have h := h S17 e18.symm
  have K19 : ∀ b, zs_K S17 b = zs_K S12 b := zs_Kt e18 (zs_KsR _ _ _ _) (fun _ => rfl)
  refine zu_aload_n d_1000_161 rfl (zs_ra _) ?_
  refine zu_sipush d_1000_162 zh_20001 ?_
  refine zu_newa0 (k := 0) d_1000_165 rfl rfl (fun _ => rfl) (by decide) (by decide) ?_
  generalize e23 : zs_nw S17 (.inr (0, (20001 : Int32).toNatClampNeg)) (20001 : Int32).toNatClampNeg = S21
  generalize e22 : zs_N S17 = a20
  have h := h a20 S21 e22.symm e23.symm
  have k24 := zs_kn e22 e23
  obtain ⟨k25, h⟩ := h
  refine zp_1_82 (v := (some a20)) rfl d_1000_167 k25 k7 ?_
  generalize e27 : zs_sR S21 1026 p0 (some a20) = S26
  have h := h S26 e27.symm
  have K28 : ∀ b, zs_K S26 b = zs_K S21 b := zs_Kt e27 (zs_KsR _ _ _ _) (fun _ => rfl)
  refine zu_aload_n d_1000_170 rfl (zs_ra _) ?_
  refine zu_sipush d_1000_171 zh_20001 ?_
  refine zu_newa0 (k := 0) d_1000_174 rfl rfl (fun _ => rfl) (by decide) (by decide) ?_
  generalize e32 : zs_nw S26 (.inr (0, (20001 : Int32).toNatClampNeg)) (20001 : Int32).toNatClampNeg = S30
  generalize e31 : zs_N S26 = a29
  have h := h a29 S30 e31.symm e32.symm
  have k33 := zs_kn e31 e32
  obtain ⟨k34, h⟩ := h
  refine zp_1_85 (v := (some a29)) rfl d_1000_176 k34 k7 ?_
  generalize e36 : zs_sR S30 1027 p0 (some a29) = S35
  have h := h S35 e36.symm
  have K37 : ∀ b, zs_K S35 b = zs_K S30 b := zs_Kt e36 (zs_KsR _ _ _ _) (fun _ => rfl)
  exact (u_X2_init_179 hB h).weak ⟨rfl, trivial⟩
def w_X2_init_113 (X : zs_X) (d : Nat) (p0 : Nat) (S : zs_T) (Q : zs_Q) : Prop :=
  (∀ a1 S2, a1 = zs_N S → S2 = zs_nw S (.inr (0, (101 : Int32).toNatClampNeg)) (101 : Int32).toNatClampNeg → zs_K S2 p0 = some (.inl 1) ∧ ab_n0 X.1 ≤ p0 ∧ ∀ S8, S8 = zs_sR S2 1019 p0 (some a1) → ∀ a11 S12, a11 = zs_N S8 → S12 = zs_nw S8 (.inr (0, (101 : Int32).toNatClampNeg)) (101 : Int32).toNatClampNeg → zs_K S12 p0 = some (.inl 1) ∧ ∀ S17, S17 = zs_sR S12 1020 p0 (some a11) → ∀ a20 S21, a20 = zs_N S17 → S21 = zs_nw S17 (.inr (0, (101 : Int32).toNatClampNeg)) (101 : Int32).toNatClampNeg → zs_K S21 p0 = some (.inl 1) ∧ ∀ S26, S26 = zs_sR S21 1021 p0 (some a20) → ∀ a29 S30, a29 = zs_N S26 → S30 = zs_nw S26 (.inr (0, (101 : Int32).toNatClampNeg)) (101 : Int32).toNatClampNeg → zs_K S30 p0 = some (.inl 1) ∧ ∀ S35, S35 = zs_sR S30 1022 p0 (some a29) → w_X2_init_145 X d p0 S35 Q)
theorem u_X2_init_113 {σ : Nat → Nat} {n0 : Nat} {bf : ab_B} {d : Nat} {p0 : Nat} {S : zs_T} {Q : zs_Q} (hB : zt_B bf) (h : w_X2_init_113 (zx σ n0 bf) d p0 S Q) : zs_U (zx σ n0 bf) d 1000 113 [(0, .ref p0)] [] S Q := by
  unfold w_X2_init_113 at h
  refine zu_aload_n d_1000_113 rfl (zs_ra _) ?_
  refine zu_bipush d_1000_114 zj_101 ?_
  refine zu_newa0 (k := 0) d_1000_116 rfl rfl (fun _ => rfl) (by decide) (by decide) ?_
  generalize e4 : zs_nw S (.inr (0, (101 : Int32).toNatClampNeg)) (101 : Int32).toNatClampNeg = S2
  generalize e3 : zs_N S = a1
  have h := h a1 S2 e3.symm e4.symm
  have k5 := zs_kn e3 e4
  obtain ⟨k6, h⟩ := h
  obtain ⟨k7, h⟩ := h
  refine zp_1_64 (v := (some a1)) rfl d_1000_118 k6 k7 ?_
  generalize e9 : zs_sR S2 1019 p0 (some a1) = S8
  have h := h S8 e9.symm
  have K10 : ∀ b, zs_K S8 b = zs_K S2 b := zs_Kt e9 (zs_KsR _ _ _ _) (fun _ => rfl)
  refine zu_aload_n d_1000_121 rfl (zs_ra _) ?_
  refine zu_bipush d_1000_122 zj_101 ?_
  refine zu_newa0 (k := 0) d_1000_124 rfl rfl (fun _ => rfl) (by decide) (by decide) ?_
  generalize e14 : zs_nw S8 (.inr (0, (101 : Int32).toNatClampNeg)) (101 : Int32).toNatClampNeg = S12
  generalize e13 : zs_N S8 = a11
  have h := h a11 S12 e13.symm e14.symm
  have k15 := zs_kn e13 e14
  obtain ⟨k16, h⟩ := h
  refine zp_1_67 (v := (some a11)) rfl d_1000_126 k16 k7 ?_
  generalize e18 : zs_sR S12 1020 p0 (some a11) = S17
  have h := h S17 e18.symm
  have K19 : ∀ b, zs_K S17 b = zs_K S12 b := zs_Kt e18 (zs_KsR _ _ _ _) (fun _ => rfl)
  refine zu_aload_n d_1000_129 rfl (zs_ra _) ?_
  refine zu_bipush d_1000_130 zj_101 ?_
  refine zu_newa0 (k := 0) d_1000_132 rfl rfl (fun _ => rfl) (by decide) (by decide) ?_
  generalize e23 : zs_nw S17 (.inr (0, (101 : Int32).toNatClampNeg)) (101 : Int32).toNatClampNeg = S21
  generalize e22 : zs_N S17 = a20
  have h := h a20 S21 e22.symm e23.symm
  have k24 := zs_kn e22 e23
  obtain ⟨k25, h⟩ := h
  refine zp_1_70 (v := (some a20)) rfl d_1000_134 k25 k7 ?_
  generalize e27 : zs_sR S21 1021 p0 (some a20) = S26
  have h := h S26 e27.symm
  have K28 : ∀ b, zs_K S26 b = zs_K S21 b := zs_Kt e27 (zs_KsR _ _ _ _) (fun _ => rfl)
  refine zu_aload_n d_1000_137 rfl (zs_ra _) ?_
  refine zu_bipush d_1000_138 zj_101 ?_
  refine zu_newa0 (k := 0) d_1000_140 rfl rfl (fun _ => rfl) (by decide) (by decide) ?_
  generalize e32 : zs_nw S26 (.inr (0, (101 : Int32).toNatClampNeg)) (101 : Int32).toNatClampNeg = S30
  generalize e31 : zs_N S26 = a29
  have h := h a29 S30 e31.symm e32.symm
  have k33 := zs_kn e31 e32
  obtain ⟨k34, h⟩ := h
  refine zp_1_73 (v := (some a29)) rfl d_1000_142 k34 k7 ?_
  generalize e36 : zs_sR S30 1022 p0 (some a29) = S35
  have h := h S35 e36.symm
  have K37 : ∀ b, zs_K S35 b = zs_K S30 b := zs_Kt e36 (zs_KsR _ _ _ _) (fun _ => rfl)
  exact (u_X2_init_145 hB h).weak ⟨rfl, trivial⟩
def w_X2_init_78 (X : zs_X) (d : Nat) (p0 : Nat) (S : zs_T) (Q : zs_Q) : Prop :=
  (∀ a1 S2, a1 = zs_N S → S2 = zs_nw S (.inr (0, (20001 : Int32).toNatClampNeg)) (20001 : Int32).toNatClampNeg → zs_K S2 p0 = some (.inl 1) ∧ ab_n0 X.1 ≤ p0 ∧ ∀ S8, S8 = zs_sR S2 1012 p0 (some a1) → ∀ a11 S12, a11 = zs_N S8 → S12 = zs_nw S8 (.inr (0, (20001 : Int32).toNatClampNeg)) (20001 : Int32).toNatClampNeg → zs_K S12 p0 = some (.inl 1) ∧ ∀ S17, S17 = zs_sR S12 1013 p0 (some a11) → ∀ a20 S21, a20 = zs_N S17 → S21 = zs_nw S17 (.inr (5, (101 : Int32).toNatClampNeg)) (101 : Int32).toNatClampNeg → zs_K S21 p0 = some (.inl 1) ∧ ∀ S26, S26 = zs_sR S21 1017 p0 (some a20) → ∀ a29 S30, a29 = zs_N S26 → S30 = zs_nw S26 (.inr (0, (101 : Int32).toNatClampNeg)) (101 : Int32).toNatClampNeg → zs_K S30 p0 = some (.inl 1) ∧ ∀ S35, S35 = zs_sR S30 1018 p0 (some a29) → w_X2_init_113 X d p0 S35 Q)
theorem u_X2_init_78 {σ : Nat → Nat} {n0 : Nat} {bf : ab_B} {d : Nat} {p0 : Nat} {S : zs_T} {Q : zs_Q} (hB : zt_B bf) (h : w_X2_init_78 (zx σ n0 bf) d p0 S Q) : zs_U (zx σ n0 bf) d 1000 78 [(0, .ref p0)] [] S Q := by
  unfold w_X2_init_78 at h
  refine zu_aload_n d_1000_78 rfl (zs_ra _) ?_
  refine zu_sipush d_1000_79 zh_20001 ?_
  refine zu_newa0 (k := 0) d_1000_82 rfl rfl (fun _ => rfl) (by decide) (by decide) ?_
  generalize e4 : zs_nw S (.inr (0, (20001 : Int32).toNatClampNeg)) (20001 : Int32).toNatClampNeg = S2
  generalize e3 : zs_N S = a1
  have h := h a1 S2 e3.symm e4.symm
  have k5 := zs_kn e3 e4
  obtain ⟨k6, h⟩ := h
  obtain ⟨k7, h⟩ := h
  refine zp_1_49 (v := (some a1)) rfl d_1000_84 k6 k7 ?_
  generalize e9 : zs_sR S2 1012 p0 (some a1) = S8
  have h := h S8 e9.symm
  have K10 : ∀ b, zs_K S8 b = zs_K S2 b := zs_Kt e9 (zs_KsR _ _ _ _) (fun _ => rfl)
  refine zu_aload_n d_1000_87 rfl (zs_ra _) ?_
  refine zu_sipush d_1000_88 zh_20001 ?_
  refine zu_newa0 (k := 0) d_1000_91 rfl rfl (fun _ => rfl) (by decide) (by decide) ?_
  generalize e14 : zs_nw S8 (.inr (0, (20001 : Int32).toNatClampNeg)) (20001 : Int32).toNatClampNeg = S12
  generalize e13 : zs_N S8 = a11
  have h := h a11 S12 e13.symm e14.symm
  have k15 := zs_kn e13 e14
  obtain ⟨k16, h⟩ := h
  refine zp_1_52 (v := (some a11)) rfl d_1000_93 k16 k7 ?_
  generalize e18 : zs_sR S12 1013 p0 (some a11) = S17
  have h := h S17 e18.symm
  have K19 : ∀ b, zs_K S17 b = zs_K S12 b := zs_Kt e18 (zs_KsR _ _ _ _) (fun _ => rfl)
  refine zu_aload_n d_1000_96 rfl (zs_ra _) ?_
  refine zu_bipush d_1000_97 zj_101 ?_
  refine zw_1_55 rfl d_1000_99 (by decide) (by decide) ?_
  generalize e23 : zs_nw S17 (.inr (5, (101 : Int32).toNatClampNeg)) (101 : Int32).toNatClampNeg = S21
  generalize e22 : zs_N S17 = a20
  have h := h a20 S21 e22.symm e23.symm
  have k24 := zs_kn e22 e23
  obtain ⟨k25, h⟩ := h
  refine zp_1_57 (v := (some a20)) rfl d_1000_102 k25 k7 ?_
  generalize e27 : zs_sR S21 1017 p0 (some a20) = S26
  have h := h S26 e27.symm
  have K28 : ∀ b, zs_K S26 b = zs_K S21 b := zs_Kt e27 (zs_KsR _ _ _ _) (fun _ => rfl)
  refine zu_aload_n d_1000_105 rfl (zs_ra _) ?_
  refine zu_bipush d_1000_106 zj_101 ?_
  refine zu_newa0 (k := 0) d_1000_108 rfl rfl (fun _ => rfl) (by decide) (by decide) ?_
  generalize e32 : zs_nw S26 (.inr (0, (101 : Int32).toNatClampNeg)) (101 : Int32).toNatClampNeg = S30
  generalize e31 : zs_N S26 = a29
  have h := h a29 S30 e31.symm e32.symm
  have k33 := zs_kn e31 e32
  obtain ⟨k34, h⟩ := h
  refine zp_1_61 (v := (some a29)) rfl d_1000_110 k34 k7 ?_
  generalize e36 : zs_sR S30 1018 p0 (some a29) = S35
  have h := h S35 e36.symm
  have K37 : ∀ b, zs_K S35 b = zs_K S30 b := zs_Kt e36 (zs_KsR _ _ _ _) (fun _ => rfl)
  exact (u_X2_init_113 hB h).weak ⟨rfl, trivial⟩
def w_X2_init_45 (X : zs_X) (d : Nat) (p0 : Nat) (S : zs_T) (Q : zs_Q) : Prop :=
  (∀ a1 S2, a1 = zs_N S → S2 = zs_nw S (.inr (3, (60000 : Int32).toNatClampNeg)) (60000 : Int32).toNatClampNeg → zs_K S2 p0 = some (.inl 1) ∧ ab_n0 X.1 ≤ p0 ∧ ∀ S8, S8 = zs_sR S2 1005 p0 (some a1) → ∀ a11 S12, a11 = zs_N S8 → S12 = zs_nw S8 (.inr (0, (60000 : Int32).toNatClampNeg)) (60000 : Int32).toNatClampNeg → zs_K S12 p0 = some (.inl 1) ∧ ∀ S17, S17 = zs_sR S12 1006 p0 (some a11) → ∀ a20 S21, a20 = zs_N S17 → S21 = zs_nw S17 (.inr (1, (20081 : Int32).toNatClampNeg)) (20081 : Int32).toNatClampNeg → zs_K S21 p0 = some (.inl 1) ∧ ∀ S26, S26 = zs_sR S21 1008 p0 (some a20) → ∀ a29 S30, a29 = zs_N S26 → S30 = zs_nw S26 (.inr (0, (60000 : Int32).toNatClampNeg)) (60000 : Int32).toNatClampNeg → zs_K S30 p0 = some (.inl 1) ∧ ∀ S35, S35 = zs_sR S30 1009 p0 (some a29) → w_X2_init_78 X d p0 S35 Q)
theorem u_X2_init_45 {σ : Nat → Nat} {n0 : Nat} {bf : ab_B} {d : Nat} {p0 : Nat} {S : zs_T} {Q : zs_Q} (hB : zt_B bf) (h : w_X2_init_45 (zx σ n0 bf) d p0 S Q) : zs_U (zx σ n0 bf) d 1000 45 [(0, .ref p0)] [] S Q := by
  unfold w_X2_init_45 at h
  refine zu_aload_n d_1000_45 rfl (zs_ra _) ?_
  refine zl_1_35 rfl d_1000_46 ?_
  refine zu_newa1 (k := 3) d_1000_48 rfl rfl (fun _ => rfl) (by decide) (by decide) ?_
  generalize e4 : zs_nw S (.inr (3, (60000 : Int32).toNatClampNeg)) (60000 : Int32).toNatClampNeg = S2
  generalize e3 : zs_N S = a1
  have h := h a1 S2 e3.symm e4.symm
  have k5 := zs_kn e3 e4
  obtain ⟨k6, h⟩ := h
  obtain ⟨k7, h⟩ := h
  refine zp_1_36 (v := (some a1)) rfl d_1000_50 k6 k7 ?_
  generalize e9 : zs_sR S2 1005 p0 (some a1) = S8
  have h := h S8 e9.symm
  have K10 : ∀ b, zs_K S8 b = zs_K S2 b := zs_Kt e9 (zs_KsR _ _ _ _) (fun _ => rfl)
  refine zu_aload_n d_1000_53 rfl (zs_ra _) ?_
  refine zl_1_35 rfl d_1000_54 ?_
  refine zu_newa0 (k := 0) d_1000_56 rfl rfl (fun _ => rfl) (by decide) (by decide) ?_
  generalize e14 : zs_nw S8 (.inr (0, (60000 : Int32).toNatClampNeg)) (60000 : Int32).toNatClampNeg = S12
  generalize e13 : zs_N S8 = a11
  have h := h a11 S12 e13.symm e14.symm
  have k15 := zs_kn e13 e14
  obtain ⟨k16, h⟩ := h
  refine zp_1_39 (v := (some a11)) rfl d_1000_58 k16 k7 ?_
  generalize e18 : zs_sR S12 1006 p0 (some a11) = S17
  have h := h S17 e18.symm
  have K19 : ∀ b, zs_K S17 b = zs_K S12 b := zs_Kt e18 (zs_KsR _ _ _ _) (fun _ => rfl)
  refine zu_aload_n d_1000_61 rfl (zs_ra _) ?_
  refine zu_sipush d_1000_62 zh_20081 ?_
  refine zu_newa0 (k := 1) d_1000_65 rfl rfl (fun _ => rfl) (by decide) (by decide) ?_
  generalize e23 : zs_nw S17 (.inr (1, (20081 : Int32).toNatClampNeg)) (20081 : Int32).toNatClampNeg = S21
  generalize e22 : zs_N S17 = a20
  have h := h a20 S21 e22.symm e23.symm
  have k24 := zs_kn e22 e23
  obtain ⟨k25, h⟩ := h
  refine zp_1_42 (v := (some a20)) rfl d_1000_67 k25 k7 ?_
  generalize e27 : zs_sR S21 1008 p0 (some a20) = S26
  have h := h S26 e27.symm
  have K28 : ∀ b, zs_K S26 b = zs_K S21 b := zs_Kt e27 (zs_KsR _ _ _ _) (fun _ => rfl)
  refine zu_aload_n d_1000_70 rfl (zs_ra _) ?_
  refine zl_1_35 rfl d_1000_71 ?_
  refine zu_newa0 (k := 0) d_1000_73 rfl rfl (fun _ => rfl) (by decide) (by decide) ?_
  generalize e32 : zs_nw S26 (.inr (0, (60000 : Int32).toNatClampNeg)) (60000 : Int32).toNatClampNeg = S30
  generalize e31 : zs_N S26 = a29
  have h := h a29 S30 e31.symm e32.symm
  have k33 := zs_kn e31 e32
  obtain ⟨k34, h⟩ := h
  refine zp_1_46 (v := (some a29)) rfl d_1000_75 k34 k7 ?_
  generalize e36 : zs_sR S30 1009 p0 (some a29) = S35
  have h := h S35 e36.symm
  have K37 : ∀ b, zs_K S35 b = zs_K S30 b := zs_Kt e36 (zs_KsR _ _ _ _) (fun _ => rfl)
  exact (u_X2_init_78 hB h).weak ⟨rfl, trivial⟩
def w_X2_init (X : zs_X) (d : Nat) (p0 : Nat) (S : zs_T) (Q : zs_Q) : Prop :=
  (zs_C X d 39000 [.ref p0] S (zs_kV (fun S1 => (∀ a3 S4, a3 = zs_N S1 → S4 = zs_nw S1 (.inr (3, (360548 : Int32).toNatClampNeg)) (360548 : Int32).toNatClampNeg → zs_K S4 p0 = some (.inl 1) ∧ ab_n0 X.1 ≤ p0 ∧ ∀ S10, S10 = zs_sR S4 1001 p0 (some a3) → ∀ a13 S14, a13 = zs_N S10 → S14 = zs_nw S10 (.inr (2, (40000 : Int32).toNatClampNeg)) (40000 : Int32).toNatClampNeg → zs_K S14 p0 = some (.inl 1) ∧ ∀ S19, S19 = zs_sR S14 1002 p0 (some a13) → ∀ a22 S23, a22 = zs_N S19 → S23 = zs_nw S19 (.inr (0, (40000 : Int32).toNatClampNeg)) (40000 : Int32).toNatClampNeg → zs_K S23 p0 = some (.inl 1) ∧ ∀ S28, S28 = zs_sR S23 1003 p0 (some a22) → ∀ a31 S32, a31 = zs_N S28 → S32 = zs_nw S28 (.inl 2) 2 → zs_K S32 p0 = some (.inl 1) ∧ zs_C X d 2000 [.ref a31, va_rf (zs_R S32 1001 p0), .int (360004 : Int32)] S32 (zs_kV (fun S37 => (zs_K S37 p0 = some (.inl 1) ∧ ∀ S40, S40 = zs_sR S37 1004 p0 (some a31) → w_X2_init_45 X d p0 S40 Q)) Q))) Q))
theorem u_X2_init {σ : Nat → Nat} {n0 : Nat} {bf : ab_B} {d : Nat} {p0 : Nat} {S : zs_T} {Q : zs_Q} (hB : zt_B bf) (hd : 1 ≤ d) (h : w_X2_init (zx σ n0 bf) (d - 1) p0 S Q) : zs_C (zx σ n0 bf) d 1000 [.ref p0] S Q := by
  have hL : lv_args 0 [.ref p0] = [(0, .ref p0)] := rfl
  refine zs_C.of1 (hB.2 1000 (by decide) (by decide)) hd (by rw [hL]; exact zs_sub_self _ (by exact ⟨rfl, trivial⟩)) ?_
  rw [hL]
  clear hL
  unfold w_X2_init at h
  refine zu_aload_n d_1000_0 rfl (zs_ra _) ?_
  refine zc_1_3  hB rfl d_1000_1 (Nat.le_of_ble_eq_true rfl) h (fun S1 h => ?_)
  refine zu_aload_n d_1000_4 rfl (zs_ra _) ?_
  refine zl_1_9 rfl d_1000_5 ?_
  refine zu_newa1 (k := 3) d_1000_7 rfl rfl (fun _ => rfl) (by decide) (by decide) ?_
  generalize e6 : zs_nw S1 (.inr (3, (360548 : Int32).toNatClampNeg)) (360548 : Int32).toNatClampNeg = S4
  generalize e5 : zs_N S1 = a3
  have h := h a3 S4 e5.symm e6.symm
  have k7 := zs_kn e5 e6
  obtain ⟨k8, h⟩ := h
  obtain ⟨k9, h⟩ := h
  refine zp_1_10 (v := (some a3)) rfl d_1000_9 k8 k9 ?_
  generalize e11 : zs_sR S4 1001 p0 (some a3) = S10
  have h := h S10 e11.symm
  have K12 : ∀ b, zs_K S10 b = zs_K S4 b := zs_Kt e11 (zs_KsR _ _ _ _) (fun _ => rfl)
  refine zu_aload_n d_1000_12 rfl (zs_ra _) ?_
  refine zl_1_16 rfl d_1000_13 ?_
  refine zu_newa0 (k := 2) d_1000_15 rfl rfl (fun _ => rfl) (by decide) (by decide) ?_
  generalize e16 : zs_nw S10 (.inr (2, (40000 : Int32).toNatClampNeg)) (40000 : Int32).toNatClampNeg = S14
  generalize e15 : zs_N S10 = a13
  have h := h a13 S14 e15.symm e16.symm
  have k17 := zs_kn e15 e16
  obtain ⟨k18, h⟩ := h
  refine zp_1_17 (v := (some a13)) rfl d_1000_17 k18 k9 ?_
  generalize e20 : zs_sR S14 1002 p0 (some a13) = S19
  have h := h S19 e20.symm
  have K21 : ∀ b, zs_K S19 b = zs_K S14 b := zs_Kt e20 (zs_KsR _ _ _ _) (fun _ => rfl)
  refine zu_aload_n d_1000_20 rfl (zs_ra _) ?_
  refine zl_1_16 rfl d_1000_21 ?_
  refine zu_newa0 (k := 0) d_1000_23 rfl rfl (fun _ => rfl) (by decide) (by decide) ?_
  generalize e25 : zs_nw S19 (.inr (0, (40000 : Int32).toNatClampNeg)) (40000 : Int32).toNatClampNeg = S23
  generalize e24 : zs_N S19 = a22
  have h := h a22 S23 e24.symm e25.symm
  have k26 := zs_kn e24 e25
  obtain ⟨k27, h⟩ := h
  refine zp_1_21 (v := (some a22)) rfl d_1000_25 k27 k9 ?_
  generalize e29 : zs_sR S23 1003 p0 (some a22) = S28
  have h := h S28 e29.symm
  have K30 : ∀ b, zs_K S28 b = zs_K S23 b := zs_Kt e29 (zs_KsR _ _ _ _) (fun _ => rfl)
  refine zu_aload_n d_1000_28 rfl (zs_ra _) ?_
  refine zn_1_25 rfl d_1000_29 ?_
  generalize e34 : zs_nw S28 (.inl 2) 2 = S32
  generalize e33 : zs_N S28 = a31
  have h := h a31 S32 e33.symm e34.symm
  have k35 := zs_kn e33 e34
  refine zu_dup d_1000_32 rfl ?_
  refine zu_aload_n d_1000_33 rfl (zs_ra _) ?_
  obtain ⟨k36, h⟩ := h
  refine zg_1_10 rfl d_1000_34 k36 ?_
  refine zl_1_27 rfl d_1000_37 ?_
  refine zc_1_28 (x0 := (zs_R S32 1001 p0)) (x1 := (360004 : Int32)) hB rfl d_1000_39 (Nat.le_of_ble_eq_true rfl) h (fun S37 h => ?_)
  obtain ⟨k39, h⟩ := h
  refine zp_1_31 (v := (some a31)) rfl d_1000_42 k39 k9 ?_
  generalize e41 : zs_sR S37 1004 p0 (some a31) = S40
  have h := h S40 e41.symm
  have K42 : ∀ b, zs_K S40 b = zs_K S37 b := zs_Kt e41 (zs_KsR _ _ _ _) (fun _ => rfl)
  exact (u_X2_init_45 hB h).weak ⟨rfl, trivial⟩
/-! SchemaPascal$Machine.start(LSchemaPascal$Program;)V -/
theorem zm_1001 {σ : Nat → Nat} {n0 : Nat} {bf : ab_B} : ab_code (zx σ n0 bf).1 1001 = prog_5_method_2_code := rfl
theorem zq_1001 {σ : Nat → Nat} {n0 : Nat} {bf : ab_B} : ab_maxL (zx σ n0 bf).1 1001 = 3 := rfl
theorem zr_1001 {σ : Nat → Nat} {n0 : Nat} {bf : ab_B} : ab_ret (zx σ n0 bf).1 1001 = (Option.none : Option Jvm.ClassFile.FieldType) := rfl
theorem d_1001_0 {σ : Nat → Nat} {n0 : Nat} {bf : ab_B} : decode (ab_code (zx σ n0 bf).1 1001) 0 = .ok (.aload_n 0, 1) := zd zm_1001 (by decide +kernel)
theorem d_1001_1 {σ : Nat → Nat} {n0 : Nat} {bf : ab_B} : decode (ab_code (zx σ n0 bf).1 1001) 1 = .ok (.aload_n 1, 1) := zd zm_1001 (by decide +kernel)
theorem d_1001_2 {σ : Nat → Nat} {n0 : Nat} {bf : ab_B} : decode (ab_code (zx σ n0 bf).1 1001) 2 = .ok (.putfield 107, 3) := zd zm_1001 (by decide +kernel)
theorem d_1001_5 {σ : Nat → Nat} {n0 : Nat} {bf : ab_B} : decode (ab_code (zx σ n0 bf).1 1001) 5 = .ok (.aload_n 0, 1) := zd zm_1001 (by decide +kernel)
theorem d_1001_6 {σ : Nat → Nat} {n0 : Nat} {bf : ab_B} : decode (ab_code (zx σ n0 bf).1 1001) 6 = .ok (.iconst 0, 1) := zd zm_1001 (by decide +kernel)
theorem d_1001_7 {σ : Nat → Nat} {n0 : Nat} {bf : ab_B} : decode (ab_code (zx σ n0 bf).1 1001) 7 = .ok (.putfield 111, 3) := zd zm_1001 (by decide +kernel)
theorem d_1001_10 {σ : Nat → Nat} {n0 : Nat} {bf : ab_B} : decode (ab_code (zx σ n0 bf).1 1001) 10 = .ok (.aload_n 0, 1) := zd zm_1001 (by decide +kernel)
theorem d_1001_11 {σ : Nat → Nat} {n0 : Nat} {bf : ab_B} : decode (ab_code (zx σ n0 bf).1 1001) 11 = .ok (.iconst 0, 1) := zd zm_1001 (by decide +kernel)
theorem d_1001_12 {σ : Nat → Nat} {n0 : Nat} {bf : ab_B} : decode (ab_code (zx σ n0 bf).1 1001) 12 = .ok (.putfield 114, 3) := zd zm_1001 (by decide +kernel)
theorem d_1001_15 {σ : Nat → Nat} {n0 : Nat} {bf : ab_B} : decode (ab_code (zx σ n0 bf).1 1001) 15 = .ok (.aload_n 0, 1) := zd zm_1001 (by decide +kernel)
theorem d_1001_16 {σ : Nat → Nat} {n0 : Nat} {bf : ab_B} : decode (ab_code (zx σ n0 bf).1 1001) 16 = .ok (.iconst 0, 1) := zd zm_1001 (by decide +kernel)
theorem d_1001_17 {σ : Nat → Nat} {n0 : Nat} {bf : ab_B} : decode (ab_code (zx σ n0 bf).1 1001) 17 = .ok (.putfield 117, 3) := zd zm_1001 (by decide +kernel)
theorem d_1001_20 {σ : Nat → Nat} {n0 : Nat} {bf : ab_B} : decode (ab_code (zx σ n0 bf).1 1001) 20 = .ok (.aload_n 0, 1) := zd zm_1001 (by decide +kernel)
theorem d_1001_21 {σ : Nat → Nat} {n0 : Nat} {bf : ab_B} : decode (ab_code (zx σ n0 bf).1 1001) 21 = .ok (.iconst 0, 1) := zd zm_1001 (by decide +kernel)
theorem d_1001_22 {σ : Nat → Nat} {n0 : Nat} {bf : ab_B} : decode (ab_code (zx σ n0 bf).1 1001) 22 = .ok (.putfield 120, 3) := zd zm_1001 (by decide +kernel)
theorem d_1001_25 {σ : Nat → Nat} {n0 : Nat} {bf : ab_B} : decode (ab_code (zx σ n0 bf).1 1001) 25 = .ok (.aload_n 0, 1) := zd zm_1001 (by decide +kernel)
theorem d_1001_26 {σ : Nat → Nat} {n0 : Nat} {bf : ab_B} : decode (ab_code (zx σ n0 bf).1 1001) 26 = .ok (.iconst 0, 1) := zd zm_1001 (by decide +kernel)
theorem d_1001_27 {σ : Nat → Nat} {n0 : Nat} {bf : ab_B} : decode (ab_code (zx σ n0 bf).1 1001) 27 = .ok (.putfield 123, 3) := zd zm_1001 (by decide +kernel)
theorem d_1001_30 {σ : Nat → Nat} {n0 : Nat} {bf : ab_B} : decode (ab_code (zx σ n0 bf).1 1001) 30 = .ok (.aload_n 0, 1) := zd zm_1001 (by decide +kernel)
theorem d_1001_31 {σ : Nat → Nat} {n0 : Nat} {bf : ab_B} : decode (ab_code (zx σ n0 bf).1 1001) 31 = .ok (.iconst 0, 1) := zd zm_1001 (by decide +kernel)
theorem d_1001_32 {σ : Nat → Nat} {n0 : Nat} {bf : ab_B} : decode (ab_code (zx σ n0 bf).1 1001) 32 = .ok (.putfield 126, 3) := zd zm_1001 (by decide +kernel)
theorem d_1001_35 {σ : Nat → Nat} {n0 : Nat} {bf : ab_B} : decode (ab_code (zx σ n0 bf).1 1001) 35 = .ok (.aload_n 0, 1) := zd zm_1001 (by decide +kernel)
theorem d_1001_36 {σ : Nat → Nat} {n0 : Nat} {bf : ab_B} : decode (ab_code (zx σ n0 bf).1 1001) 36 = .ok (.iconst (-1), 1) := zd zm_1001 (by decide +kernel)
theorem d_1001_37 {σ : Nat → Nat} {n0 : Nat} {bf : ab_B} : decode (ab_code (zx σ n0 bf).1 1001) 37 = .ok (.putfield 129, 3) := zd zm_1001 (by decide +kernel)
theorem d_1001_40 {σ : Nat → Nat} {n0 : Nat} {bf : ab_B} : decode (ab_code (zx σ n0 bf).1 1001) 40 = .ok (.aload_n 0, 1) := zd zm_1001 (by decide +kernel)
theorem d_1001_41 {σ : Nat → Nat} {n0 : Nat} {bf : ab_B} : decode (ab_code (zx σ n0 bf).1 1001) 41 = .ok (.iconst 0, 1) := zd zm_1001 (by decide +kernel)
theorem d_1001_42 {σ : Nat → Nat} {n0 : Nat} {bf : ab_B} : decode (ab_code (zx σ n0 bf).1 1001) 42 = .ok (.putfield 132, 3) := zd zm_1001 (by decide +kernel)
theorem d_1001_45 {σ : Nat → Nat} {n0 : Nat} {bf : ab_B} : decode (ab_code (zx σ n0 bf).1 1001) 45 = .ok (.aload_n 0, 1) := zd zm_1001 (by decide +kernel)
theorem d_1001_46 {σ : Nat → Nat} {n0 : Nat} {bf : ab_B} : decode (ab_code (zx σ n0 bf).1 1001) 46 = .ok (.iconst 0, 1) := zd zm_1001 (by decide +kernel)
theorem d_1001_47 {σ : Nat → Nat} {n0 : Nat} {bf : ab_B} : decode (ab_code (zx σ n0 bf).1 1001) 47 = .ok (.putfield 135, 3) := zd zm_1001 (by decide +kernel)
theorem d_1001_50 {σ : Nat → Nat} {n0 : Nat} {bf : ab_B} : decode (ab_code (zx σ n0 bf).1 1001) 50 = .ok (.aload_n 0, 1) := zd zm_1001 (by decide +kernel)
theorem d_1001_51 {σ : Nat → Nat} {n0 : Nat} {bf : ab_B} : decode (ab_code (zx σ n0 bf).1 1001) 51 = .ok (.iconst 0, 1) := zd zm_1001 (by decide +kernel)
theorem d_1001_52 {σ : Nat → Nat} {n0 : Nat} {bf : ab_B} : decode (ab_code (zx σ n0 bf).1 1001) 52 = .ok (.putfield 138, 3) := zd zm_1001 (by decide +kernel)
theorem d_1001_55 {σ : Nat → Nat} {n0 : Nat} {bf : ab_B} : decode (ab_code (zx σ n0 bf).1 1001) 55 = .ok (.aload_n 0, 1) := zd zm_1001 (by decide +kernel)
theorem d_1001_56 {σ : Nat → Nat} {n0 : Nat} {bf : ab_B} : decode (ab_code (zx σ n0 bf).1 1001) 56 = .ok (.iconst 0, 1) := zd zm_1001 (by decide +kernel)
theorem d_1001_57 {σ : Nat → Nat} {n0 : Nat} {bf : ab_B} : decode (ab_code (zx σ n0 bf).1 1001) 57 = .ok (.putfield 141, 3) := zd zm_1001 (by decide +kernel)
theorem d_1001_60 {σ : Nat → Nat} {n0 : Nat} {bf : ab_B} : decode (ab_code (zx σ n0 bf).1 1001) 60 = .ok (.aload_n 0, 1) := zd zm_1001 (by decide +kernel)
theorem d_1001_61 {σ : Nat → Nat} {n0 : Nat} {bf : ab_B} : decode (ab_code (zx σ n0 bf).1 1001) 61 = .ok (.iconst 0, 1) := zd zm_1001 (by decide +kernel)
theorem d_1001_62 {σ : Nat → Nat} {n0 : Nat} {bf : ab_B} : decode (ab_code (zx σ n0 bf).1 1001) 62 = .ok (.putfield 144, 3) := zd zm_1001 (by decide +kernel)
theorem d_1001_65 {σ : Nat → Nat} {n0 : Nat} {bf : ab_B} : decode (ab_code (zx σ n0 bf).1 1001) 65 = .ok (.aload_n 0, 1) := zd zm_1001 (by decide +kernel)
theorem d_1001_66 {σ : Nat → Nat} {n0 : Nat} {bf : ab_B} : decode (ab_code (zx σ n0 bf).1 1001) 66 = .ok (.iconst (-1), 1) := zd zm_1001 (by decide +kernel)
theorem d_1001_67 {σ : Nat → Nat} {n0 : Nat} {bf : ab_B} : decode (ab_code (zx σ n0 bf).1 1001) 67 = .ok (.putfield 97, 3) := zd zm_1001 (by decide +kernel)
theorem d_1001_70 {σ : Nat → Nat} {n0 : Nat} {bf : ab_B} : decode (ab_code (zx σ n0 bf).1 1001) 70 = .ok (.aload_n 0, 1) := zd zm_1001 (by decide +kernel)
theorem d_1001_71 {σ : Nat → Nat} {n0 : Nat} {bf : ab_B} : decode (ab_code (zx σ n0 bf).1 1001) 71 = .ok (.iconst 1, 1) := zd zm_1001 (by decide +kernel)
theorem d_1001_72 {σ : Nat → Nat} {n0 : Nat} {bf : ab_B} : decode (ab_code (zx σ n0 bf).1 1001) 72 = .ok (.putfield 147, 3) := zd zm_1001 (by decide +kernel)
theorem d_1001_75 {σ : Nat → Nat} {n0 : Nat} {bf : ab_B} : decode (ab_code (zx σ n0 bf).1 1001) 75 = .ok (.aload_n 0, 1) := zd zm_1001 (by decide +kernel)
theorem d_1001_76 {σ : Nat → Nat} {n0 : Nat} {bf : ab_B} : decode (ab_code (zx σ n0 bf).1 1001) 76 = .ok (.iconst 0, 1) := zd zm_1001 (by decide +kernel)
theorem d_1001_77 {σ : Nat → Nat} {n0 : Nat} {bf : ab_B} : decode (ab_code (zx σ n0 bf).1 1001) 77 = .ok (.putfield 151, 3) := zd zm_1001 (by decide +kernel)
theorem d_1001_80 {σ : Nat → Nat} {n0 : Nat} {bf : ab_B} : decode (ab_code (zx σ n0 bf).1 1001) 80 = .ok (.aload_n 0, 1) := zd zm_1001 (by decide +kernel)
theorem d_1001_81 {σ : Nat → Nat} {n0 : Nat} {bf : ab_B} : decode (ab_code (zx σ n0 bf).1 1001) 81 = .ok (.iconst 0, 1) := zd zm_1001 (by decide +kernel)
theorem d_1001_82 {σ : Nat → Nat} {n0 : Nat} {bf : ab_B} : decode (ab_code (zx σ n0 bf).1 1001) 82 = .ok (.putfield 154, 3) := zd zm_1001 (by decide +kernel)
theorem d_1001_85 {σ : Nat → Nat} {n0 : Nat} {bf : ab_B} : decode (ab_code (zx σ n0 bf).1 1001) 85 = .ok (.aload_n 0, 1) := zd zm_1001 (by decide +kernel)
theorem d_1001_86 {σ : Nat → Nat} {n0 : Nat} {bf : ab_B} : decode (ab_code (zx σ n0 bf).1 1001) 86 = .ok (.getfield 107, 3) := zd zm_1001 (by decide +kernel)
theorem d_1001_89 {σ : Nat → Nat} {n0 : Nat} {bf : ab_B} : decode (ab_code (zx σ n0 bf).1 1001) 89 = .ok (.getfield 157, 3) := zd zm_1001 (by decide +kernel)
theorem d_1001_92 {σ : Nat → Nat} {n0 : Nat} {bf : ab_B} : decode (ab_code (zx σ n0 bf).1 1001) 92 = .ok (.iconst 0, 1) := zd zm_1001 (by decide +kernel)
theorem d_1001_93 {σ : Nat → Nat} {n0 : Nat} {bf : ab_B} : decode (ab_code (zx σ n0 bf).1 1001) 93 = .ok (.invokevirtual 162, 3) := zd zm_1001 (by decide +kernel)
theorem d_1001_96 {σ : Nat → Nat} {n0 : Nat} {bf : ab_B} : decode (ab_code (zx σ n0 bf).1 1001) 96 = .ok (.checkcast 55, 3) := zd zm_1001 (by decide +kernel)
theorem d_1001_99 {σ : Nat → Nat} {n0 : Nat} {bf : ab_B} : decode (ab_code (zx σ n0 bf).1 1001) 99 = .ok (.astore_n 2, 1) := zd zm_1001 (by decide +kernel)
theorem d_1001_100 {σ : Nat → Nat} {n0 : Nat} {bf : ab_B} : decode (ab_code (zx σ n0 bf).1 1001) 100 = .ok (.aload_n 0, 1) := zd zm_1001 (by decide +kernel)
theorem d_1001_101 {σ : Nat → Nat} {n0 : Nat} {bf : ab_B} : decode (ab_code (zx σ n0 bf).1 1001) 101 = .ok (.aload_n 2, 1) := zd zm_1001 (by decide +kernel)
theorem d_1001_102 {σ : Nat → Nat} {n0 : Nat} {bf : ab_B} : decode (ab_code (zx σ n0 bf).1 1001) 102 = .ok (.iconst (-1), 1) := zd zm_1001 (by decide +kernel)
theorem d_1001_103 {σ : Nat → Nat} {n0 : Nat} {bf : ab_B} : decode (ab_code (zx σ n0 bf).1 1001) 103 = .ok (.iconst (-1), 1) := zd zm_1001 (by decide +kernel)
theorem d_1001_104 {σ : Nat → Nat} {n0 : Nat} {bf : ab_B} : decode (ab_code (zx σ n0 bf).1 1001) 104 = .ok (.iconst (-1), 1) := zd zm_1001 (by decide +kernel)
theorem d_1001_105 {σ : Nat → Nat} {n0 : Nat} {bf : ab_B} : decode (ab_code (zx σ n0 bf).1 1001) 105 = .ok (.invokevirtual 168, 3) := zd zm_1001 (by decide +kernel)
theorem d_1001_108 {σ : Nat → Nat} {n0 : Nat} {bf : ab_B} : decode (ab_code (zx σ n0 bf).1 1001) 108 = .ok (.aload_n 0, 1) := zd zm_1001 (by decide +kernel)
theorem d_1001_109 {σ : Nat → Nat} {n0 : Nat} {bf : ab_B} : decode (ab_code (zx σ n0 bf).1 1001) 109 = .ok (.aload_n 2, 1) := zd zm_1001 (by decide +kernel)
theorem d_1001_110 {σ : Nat → Nat} {n0 : Nat} {bf : ab_B} : decode (ab_code (zx σ n0 bf).1 1001) 110 = .ok (.getfield 172, 3) := zd zm_1001 (by decide +kernel)
theorem d_1001_113 {σ : Nat → Nat} {n0 : Nat} {bf : ab_B} : decode (ab_code (zx σ n0 bf).1 1001) 113 = .ok (.putfield 175, 3) := zd zm_1001 (by decide +kernel)
theorem d_1001_116 {σ : Nat → Nat} {n0 : Nat} {bf : ab_B} : decode (ab_code (zx σ n0 bf).1 1001) 116 = .ok (.aload_n 0, 1) := zd zm_1001 (by decide +kernel)
theorem d_1001_117 {σ : Nat → Nat} {n0 : Nat} {bf : ab_B} : decode (ab_code (zx σ n0 bf).1 1001) 117 = .ok (.aload_n 2, 1) := zd zm_1001 (by decide +kernel)
theorem d_1001_118 {σ : Nat → Nat} {n0 : Nat} {bf : ab_B} : decode (ab_code (zx σ n0 bf).1 1001) 118 = .ok (.getfield 178, 3) := zd zm_1001 (by decide +kernel)
theorem d_1001_121 {σ : Nat → Nat} {n0 : Nat} {bf : ab_B} : decode (ab_code (zx σ n0 bf).1 1001) 121 = .ok (.i2l, 1) := zd zm_1001 (by decide +kernel)
theorem d_1001_122 {σ : Nat → Nat} {n0 : Nat} {bf : ab_B} : decode (ab_code (zx σ n0 bf).1 1001) 122 = .ok (.aload_n 2, 1) := zd zm_1001 (by decide +kernel)
theorem d_1001_123 {σ : Nat → Nat} {n0 : Nat} {bf : ab_B} : decode (ab_code (zx σ n0 bf).1 1001) 123 = .ok (.getfield 181, 3) := zd zm_1001 (by decide +kernel)
theorem d_1001_126 {σ : Nat → Nat} {n0 : Nat} {bf : ab_B} : decode (ab_code (zx σ n0 bf).1 1001) 126 = .ok (.invokevirtual 184, 3) := zd zm_1001 (by decide +kernel)
theorem d_1001_129 {σ : Nat → Nat} {n0 : Nat} {bf : ab_B} : decode (ab_code (zx σ n0 bf).1 1001) 129 = .ok (.ifCond .eq 9, 3) := zd zm_1001 (by decide +kernel)
theorem d_1001_132 {σ : Nat → Nat} {n0 : Nat} {bf : ab_B} : decode (ab_code (zx σ n0 bf).1 1001) 132 = .ok (.aload_n 0, 1) := zd zm_1001 (by decide +kernel)
theorem d_1001_133 {σ : Nat → Nat} {n0 : Nat} {bf : ab_B} : decode (ab_code (zx σ n0 bf).1 1001) 133 = .ok (.iconst 0, 1) := zd zm_1001 (by decide +kernel)
theorem d_1001_134 {σ : Nat → Nat} {n0 : Nat} {bf : ab_B} : decode (ab_code (zx σ n0 bf).1 1001) 134 = .ok (.invokevirtual 188, 3) := zd zm_1001 (by decide +kernel)
theorem d_1001_137 {σ : Nat → Nat} {n0 : Nat} {bf : ab_B} : decode (ab_code (zx σ n0 bf).1 1001) 137 = .ok (.pop, 1) := zd zm_1001 (by decide +kernel)
theorem d_1001_138 {σ : Nat → Nat} {n0 : Nat} {bf : ab_B} : decode (ab_code (zx σ n0 bf).1 1001) 138 = .ok (.return_, 1) := zd zm_1001 (by decide +kernel)
def w_X2_start_138 (X : zs_X) (d : Nat)  (S : zs_T) (Q : zs_Q) : Prop :=
  (Q (.returned none) S)
theorem u_X2_start_138 {σ : Nat → Nat} {n0 : Nat} {bf : ab_B} {d : Nat}  {S : zs_T} {Q : zs_Q} (hB : zt_B bf) (h : w_X2_start_138 (zx σ n0 bf) d  S Q) : zs_U (zx σ n0 bf) d 1001 138 [] [] S Q := by
  unfold w_X2_start_138 at h
  exact zu_vret d_1001_138 zr_1001 h
def w_X2_start_132 (X : zs_X) (d : Nat) (p0 : Nat) (S : zs_T) (Q : zs_Q) : Prop :=
  (zs_K S p0 = some (.inl 1) ∧ zs_C X d 1005 [.ref p0, .int (0 : Int32)] S (zs_kI (fun v3 S2 => (w_X2_start_138 X d  S2 Q)) Q))
theorem u_X2_start_132 {σ : Nat → Nat} {n0 : Nat} {bf : ab_B} {d : Nat} {p0 : Nat} {S : zs_T} {Q : zs_Q} (hB : zt_B bf) (h : w_X2_start_132 (zx σ n0 bf) d p0 S Q) : zs_U (zx σ n0 bf) d 1001 132 [(0, .ref p0)] [] S Q := by
  unfold w_X2_start_132 at h
  refine zu_aload_n d_1001_132 rfl (zs_ra _) ?_
  refine zu_iconst d_1001_133 zi_0 ?_
  obtain ⟨k1, h⟩ := h
  refine zc_1_188 (x0 := (0 : Int32)) hB rfl k1 d_1001_134 (Nat.le_of_ble_eq_true rfl) h (fun v3 S2 h => ?_)
  refine zu_pop d_1001_137 rfl ?_
  exact (u_X2_start_138 hB h).weak trivial
def w_X2_start_100 (X : zs_X) (d : Nat) (p0 : Nat) (p2 : Option Nat) (S : zs_T) (Q : zs_Q) : Prop :=
  (zs_K S p0 = some (.inl 1) ∧ zs_C X d 1002 [.ref p0, va_rf p2, .int (-1 : Int32), .int (-1 : Int32), .int (-1 : Int32)] S (zs_kV (fun S2 => (∃ b4, p2 = some b4 ∧ zs_K S2 b4 = some (.inl 10) ∧ zs_K S2 p0 = some (.inl 1) ∧ ab_n0 X.1 ≤ p0 ∧ ∀ S9, S9 = zs_sI S2 1033 p0 (zs_I S2 10010 b4) → zs_C X d 1003 [.ref p0, .long (((zs_I S9 10009 b4)).toInt64), .int (zs_I S9 10001 b4)] S9 (zs_kI (fun v13 S12 => (((v13 = 0 → w_X2_start_138 X d  S12 Q) ∧ (¬ (v13 = 0) → w_X2_start_132 X d p0 S12 Q)))) Q))) Q))
theorem u_X2_start_100 {σ : Nat → Nat} {n0 : Nat} {bf : ab_B} {d : Nat} {p0 : Nat} {p2 : Option Nat} {S : zs_T} {Q : zs_Q} (hB : zt_B bf) (h : w_X2_start_100 (zx σ n0 bf) d p0 p2 S Q) : zs_U (zx σ n0 bf) d 1001 100 [(0, .ref p0), (2, va_rf p2)] [] S Q := by
  unfold w_X2_start_100 at h
  refine zu_aload_n d_1001_100 rfl (zs_ra _) ?_
  refine zu_aload_n d_1001_101 rfl (zs_rr _) ?_
  refine zu_iconst d_1001_102 zi_m1 ?_
  refine zu_iconst d_1001_103 zi_m1 ?_
  refine zu_iconst d_1001_104 zi_m1 ?_
  obtain ⟨k1, h⟩ := h
  refine zc_1_168 (x0 := p2) (x1 := (-1 : Int32)) (x2 := (-1 : Int32)) (x3 := (-1 : Int32)) hB rfl k1 d_1001_105 (Nat.le_of_ble_eq_true rfl) h (fun S2 h => ?_)
  refine zu_aload_n d_1001_108 rfl (zs_ra _) ?_
  refine zu_aload_n d_1001_109 rfl (zs_rr _) ?_
  obtain ⟨b4, e5, h⟩ := h
  refine zs_stk0 (zs_rfe e5) ?_
  obtain ⟨k6, h⟩ := h
  refine zg_1_172 rfl d_1001_110 k6 ?_
  obtain ⟨k7, h⟩ := h
  obtain ⟨k8, h⟩ := h
  refine zp_1_175 (v := (zs_I S2 10010 b4)) rfl d_1001_113 k7 k8 ?_
  generalize e10 : zs_sI S2 1033 p0 (zs_I S2 10010 b4) = S9
  have h := h S9 e10.symm
  have K11 : ∀ b, zs_K S9 b = zs_K S2 b := zs_Kt e10 (zs_KsI _ _ _ _) (fun _ => rfl)
  refine zu_aload_n d_1001_116 rfl (zs_ra _) ?_
  refine zu_aload_n d_1001_117 rfl (zs_rr _) ?_
  refine zs_stk0 (zs_rfe e5) ?_
  refine zg_1_178 rfl d_1001_118 ((K11 _).trans k6) ?_
  refine zu_stk d_1001_121 rfl rfl ?_
  refine zu_aload_n d_1001_122 rfl (zs_rr _) ?_
  refine zs_stk0 (zs_rfe e5) ?_
  refine zg_1_181 rfl d_1001_123 ((K11 _).trans k6) ?_
  refine zc_1_184 (x0 := (((zs_I S9 10009 b4)).toInt64)) (x1 := (zs_I S9 10001 b4)) hB rfl ((K11 _).trans k7) d_1001_126 (Nat.le_of_ble_eq_true rfl) h (fun v13 S12 h => ?_)
  refine zu_ifeq (t := 138) d_1001_129 rfl (fun c14 => ?_) (fun c14 => ?_)
  · have h := h.1 c14
    exact (u_X2_start_138 hB h).weak trivial
  · have h := h.2 c14
    exact (u_X2_start_132 hB h).weak ⟨rfl, trivial⟩
def w_X2_start_60 (X : zs_X) (d : Nat) (p0 : Nat) (S : zs_T) (Q : zs_Q) : Prop :=
  (zs_K S p0 = some (.inl 1) ∧ ab_n0 X.1 ≤ p0 ∧ ∀ S3, S3 = zs_sI S 1036 p0 (0 : Int32) → ∀ S6, S6 = zs_sI S3 1037 p0 (-1 : Int32) → ∀ S9, S9 = zs_sI S6 1038 p0 (1 : Int32) → ∀ S12, S12 = zs_sI S9 1039 p0 (0 : Int32) → ∀ S15, S15 = zs_sI S12 1041 p0 (0 : Int32) → ∃ b18, (zs_R S15 1000 p0) = some b18 ∧ zs_K S b18 = some (.inl 3) ∧ ∃ b21, (zs_R S15 3004 b18) = some b21 ∧ zs_K S b21 = some (.inl 16) ∧ zs_C X d 16009 [.ref b21, .int (0 : Int32)] S15 (zs_kR (fun v25 S24 => ((∀ a, v25 = some a → zs_K S24 a = some (.inl 10)) ∧ w_X2_start_100 X d p0 v25 S24 Q)) Q))
theorem u_X2_start_60 {σ : Nat → Nat} {n0 : Nat} {bf : ab_B} {d : Nat} {p0 : Nat} {S : zs_T} {Q : zs_Q} (hB : zt_B bf) (h : w_X2_start_60 (zx σ n0 bf) d p0 S Q) : zs_U (zx σ n0 bf) d 1001 60 [(0, .ref p0)] [] S Q := by
  unfold w_X2_start_60 at h
  refine zu_aload_n d_1001_60 rfl (zs_ra _) ?_
  refine zu_iconst d_1001_61 zi_0 ?_
  obtain ⟨k1, h⟩ := h
  obtain ⟨k2, h⟩ := h
  refine zp_1_144 (v := (0 : Int32)) rfl d_1001_62 k1 k2 ?_
  generalize e4 : zs_sI S 1036 p0 (0 : Int32) = S3
  have h := h S3 e4.symm
  have K5 : ∀ b, zs_K S3 b = zs_K S b := zs_Kt e4 (zs_KsI _ _ _ _) (fun _ => rfl)
  refine zu_aload_n d_1001_65 rfl (zs_ra _) ?_
  refine zu_iconst d_1001_66 zi_m1 ?_
  refine zp_1_97 (v := (-1 : Int32)) rfl d_1001_67 ((K5 _).trans k1) k2 ?_
  generalize e7 : zs_sI S3 1037 p0 (-1 : Int32) = S6
  have h := h S6 e7.symm
  have K8 : ∀ b, zs_K S6 b = zs_K S b := zs_Kt e7 (zs_KsI _ _ _ _) K5
  refine zu_aload_n d_1001_70 rfl (zs_ra _) ?_
  refine zu_iconst d_1001_71 zi_1 ?_
  refine zp_1_147 (v := (1 : Int32)) rfl d_1001_72 ((K8 _).trans k1) k2 (Or.inr rfl) ?_
  generalize e10 : zs_sI S6 1038 p0 (1 : Int32) = S9
  have h := h S9 e10.symm
  have K11 : ∀ b, zs_K S9 b = zs_K S b := zs_Kt e10 (zs_KsI _ _ _ _) K8
  refine zu_aload_n d_1001_75 rfl (zs_ra _) ?_
  refine zu_iconst d_1001_76 zi_0 ?_
  refine zp_1_151 (v := (0 : Int32)) rfl d_1001_77 ((K11 _).trans k1) k2 (Or.inl rfl) ?_
  generalize e13 : zs_sI S9 1039 p0 (0 : Int32) = S12
  have h := h S12 e13.symm
  have K14 : ∀ b, zs_K S12 b = zs_K S b := zs_Kt e13 (zs_KsI _ _ _ _) K11
  refine zu_aload_n d_1001_80 rfl (zs_ra _) ?_
  refine zu_iconst d_1001_81 zi_0 ?_
  refine zp_1_154 (v := (0 : Int32)) rfl d_1001_82 ((K14 _).trans k1) k2 ?_
  generalize e16 : zs_sI S12 1041 p0 (0 : Int32) = S15
  have h := h S15 e16.symm
  have K17 : ∀ b, zs_K S15 b = zs_K S b := zs_Kt e16 (zs_KsI _ _ _ _) K14
  refine zu_aload_n d_1001_85 rfl (zs_ra _) ?_
  refine zg_1_107 rfl d_1001_86 ((K17 _).trans k1) ?_
  obtain ⟨b18, e19, h⟩ := h
  refine zs_stk0 (zs_rfe e19) ?_
  obtain ⟨k20, h⟩ := h
  refine zg_1_157 rfl d_1001_89 ((K17 _).trans k20) ?_
  refine zu_iconst d_1001_92 zi_0 ?_
  obtain ⟨b21, e22, h⟩ := h
  refine zs_stk1 (zs_rfe e22) ?_
  obtain ⟨k23, h⟩ := h
  refine zc_1_162 (x0 := (0 : Int32)) hB rfl ((K17 _).trans k23) d_1001_93 (Nat.le_of_ble_eq_true rfl) h (fun v25 S24 h => ?_)
  obtain ⟨k26, h⟩ := h
  refine zk_1_55 (o := v25) rfl d_1001_96 k26 ?_
  refine zu_astore_n d_1001_99 (zs_rr _) (zs_lt zq_1001 rfl) ?_
  exact (u_X2_start_100 hB h).weak ⟨rfl, rfl, trivial⟩
def w_X2_start_30 (X : zs_X) (d : Nat) (p0 : Nat) (S : zs_T) (Q : zs_Q) : Prop :=
  (zs_K S p0 = some (.inl 1) ∧ ab_n0 X.1 ≤ p0 ∧ ∀ S3, S3 = zs_sI S 1016 p0 (0 : Int32) → ∀ S6, S6 = zs_sI S3 1025 p0 (-1 : Int32) → ∀ S9, S9 = zs_sI S6 1030 p0 (0 : Int32) → ∀ S12, S12 = zs_sI S9 1031 p0 (0 : Int32) → ∀ S15, S15 = zs_sI S12 1032 p0 (0 : Int32) → ∀ S18, S18 = zs_sI S15 1034 p0 (0 : Int32) → w_X2_start_60 X d p0 S18 Q)
theorem u_X2_start_30 {σ : Nat → Nat} {n0 : Nat} {bf : ab_B} {d : Nat} {p0 : Nat} {S : zs_T} {Q : zs_Q} (hB : zt_B bf) (h : w_X2_start_30 (zx σ n0 bf) d p0 S Q) : zs_U (zx σ n0 bf) d 1001 30 [(0, .ref p0)] [] S Q := by
  unfold w_X2_start_30 at h
  refine zu_aload_n d_1001_30 rfl (zs_ra _) ?_
  refine zu_iconst d_1001_31 zi_0 ?_
  obtain ⟨k1, h⟩ := h
  obtain ⟨k2, h⟩ := h
  refine zp_1_126 (v := (0 : Int32)) rfl d_1001_32 k1 k2 ?_
  generalize e4 : zs_sI S 1016 p0 (0 : Int32) = S3
  have h := h S3 e4.symm
  have K5 : ∀ b, zs_K S3 b = zs_K S b := zs_Kt e4 (zs_KsI _ _ _ _) (fun _ => rfl)
  refine zu_aload_n d_1001_35 rfl (zs_ra _) ?_
  refine zu_iconst d_1001_36 zi_m1 ?_
  refine zp_1_129 (v := (-1 : Int32)) rfl d_1001_37 ((K5 _).trans k1) k2 ?_
  generalize e7 : zs_sI S3 1025 p0 (-1 : Int32) = S6
  have h := h S6 e7.symm
  have K8 : ∀ b, zs_K S6 b = zs_K S b := zs_Kt e7 (zs_KsI _ _ _ _) K5
  refine zu_aload_n d_1001_40 rfl (zs_ra _) ?_
  refine zu_iconst d_1001_41 zi_0 ?_
  refine zp_1_132 (v := (0 : Int32)) rfl d_1001_42 ((K8 _).trans k1) k2 ?_
  generalize e10 : zs_sI S6 1030 p0 (0 : Int32) = S9
  have h := h S9 e10.symm
  have K11 : ∀ b, zs_K S9 b = zs_K S b := zs_Kt e10 (zs_KsI _ _ _ _) K8
  refine zu_aload_n d_1001_45 rfl (zs_ra _) ?_
  refine zu_iconst d_1001_46 zi_0 ?_
  refine zp_1_135 (v := (0 : Int32)) rfl d_1001_47 ((K11 _).trans k1) k2 ?_
  generalize e13 : zs_sI S9 1031 p0 (0 : Int32) = S12
  have h := h S12 e13.symm
  have K14 : ∀ b, zs_K S12 b = zs_K S b := zs_Kt e13 (zs_KsI _ _ _ _) K11
  refine zu_aload_n d_1001_50 rfl (zs_ra _) ?_
  refine zu_iconst d_1001_51 zi_0 ?_
  refine zp_1_138 (v := (0 : Int32)) rfl d_1001_52 ((K14 _).trans k1) k2 ?_
  generalize e16 : zs_sI S12 1032 p0 (0 : Int32) = S15
  have h := h S15 e16.symm
  have K17 : ∀ b, zs_K S15 b = zs_K S b := zs_Kt e16 (zs_KsI _ _ _ _) K14
  refine zu_aload_n d_1001_55 rfl (zs_ra _) ?_
  refine zu_iconst d_1001_56 zi_0 ?_
  refine zp_1_141 (v := (0 : Int32)) rfl d_1001_57 ((K17 _).trans k1) k2 ?_
  generalize e19 : zs_sI S15 1034 p0 (0 : Int32) = S18
  have h := h S18 e19.symm
  have K20 : ∀ b, zs_K S18 b = zs_K S b := zs_Kt e19 (zs_KsI _ _ _ _) K17
  exact (u_X2_start_60 hB h).weak ⟨rfl, trivial⟩
def w_X2_start (X : zs_X) (d : Nat) (p0 : Nat) (p1 : Option Nat) (S : zs_T) (Q : zs_Q) : Prop :=
  (zs_K S p0 = some (.inl 1) ∧ ab_n0 X.1 ≤ p0 ∧ ∀ S3, S3 = zs_sR S 1000 p0 p1 → ∀ S6, S6 = zs_sI S3 1007 p0 (0 : Int32) → ∀ S9, S9 = zs_sI S6 1010 p0 (0 : Int32) → ∀ S12, S12 = zs_sI S9 1011 p0 (0 : Int32) → ∀ S15, S15 = zs_sI S12 1014 p0 (0 : Int32) → ∀ S18, S18 = zs_sI S15 1015 p0 (0 : Int32) → w_X2_start_30 X d p0 S18 Q)
theorem u_X2_start {σ : Nat → Nat} {n0 : Nat} {bf : ab_B} {d : Nat} {p0 : Nat} {p1 : Option Nat} {S : zs_T} {Q : zs_Q} (hB : zt_B bf) (hd : 1 ≤ d) (h : w_X2_start (zx σ n0 bf) (d - 1) p0 p1 S Q) : zs_C (zx σ n0 bf) d 1001 [.ref p0, va_rf p1] S Q := by
  have hL : lv_args 0 [.ref p0, va_rf p1] = [(0, .ref p0), (1, va_rf p1)] := by simp [lv_args, zs_cat, zs_cI, zs_cJ, zs_cA]
  refine zs_C.of1 (hB.2 1001 (by decide) (by decide)) hd (by rw [hL]; exact zs_sub_self _ (by exact ⟨rfl, rfl, trivial⟩)) ?_
  rw [hL]
  clear hL
  unfold w_X2_start at h
  refine zu_aload_n d_1001_0 rfl (zs_ra _) ?_
  refine zu_aload_n d_1001_1 rfl (zs_rr _) ?_
  obtain ⟨k1, h⟩ := h
  obtain ⟨k2, h⟩ := h
  refine zp_1_107 (v := p1) rfl d_1001_2 k1 k2 ?_
  generalize e4 : zs_sR S 1000 p0 p1 = S3
  have h := h S3 e4.symm
  have K5 : ∀ b, zs_K S3 b = zs_K S b := zs_Kt e4 (zs_KsR _ _ _ _) (fun _ => rfl)
  refine zu_aload_n d_1001_5 rfl (zs_ra _) ?_
  refine zu_iconst d_1001_6 zi_0 ?_
  refine zp_1_111 (v := (0 : Int32)) rfl d_1001_7 ((K5 _).trans k1) k2 ?_
  generalize e7 : zs_sI S3 1007 p0 (0 : Int32) = S6
  have h := h S6 e7.symm
  have K8 : ∀ b, zs_K S6 b = zs_K S b := zs_Kt e7 (zs_KsI _ _ _ _) K5
  refine zu_aload_n d_1001_10 rfl (zs_ra _) ?_
  refine zu_iconst d_1001_11 zi_0 ?_
  refine zp_1_114 (v := (0 : Int32)) rfl d_1001_12 ((K8 _).trans k1) k2 ?_
  generalize e10 : zs_sI S6 1010 p0 (0 : Int32) = S9
  have h := h S9 e10.symm
  have K11 : ∀ b, zs_K S9 b = zs_K S b := zs_Kt e10 (zs_KsI _ _ _ _) K8
  refine zu_aload_n d_1001_15 rfl (zs_ra _) ?_
  refine zu_iconst d_1001_16 zi_0 ?_
  refine zp_1_117 (v := (0 : Int32)) rfl d_1001_17 ((K11 _).trans k1) k2 ?_
  generalize e13 : zs_sI S9 1011 p0 (0 : Int32) = S12
  have h := h S12 e13.symm
  have K14 : ∀ b, zs_K S12 b = zs_K S b := zs_Kt e13 (zs_KsI _ _ _ _) K11
  refine zu_aload_n d_1001_20 rfl (zs_ra _) ?_
  refine zu_iconst d_1001_21 zi_0 ?_
  refine zp_1_120 (v := (0 : Int32)) rfl d_1001_22 ((K14 _).trans k1) k2 ?_
  generalize e16 : zs_sI S12 1014 p0 (0 : Int32) = S15
  have h := h S15 e16.symm
  have K17 : ∀ b, zs_K S15 b = zs_K S b := zs_Kt e16 (zs_KsI _ _ _ _) K14
  refine zu_aload_n d_1001_25 rfl (zs_ra _) ?_
  refine zu_iconst d_1001_26 zi_0 ?_
  refine zp_1_123 (v := (0 : Int32)) rfl d_1001_27 ((K17 _).trans k1) k2 ?_
  generalize e19 : zs_sI S15 1015 p0 (0 : Int32) = S18
  have h := h S18 e19.symm
  have K20 : ∀ b, zs_K S18 b = zs_K S b := zs_Kt e19 (zs_KsI _ _ _ _) K17
  exact (u_X2_start_30 hB h).weak ⟨rfl, trivial⟩
/-! SchemaPascal$Machine.open(LSchemaPascal$Routine;III)V -/
theorem zm_1002 {σ : Nat → Nat} {n0 : Nat} {bf : ab_B} : ab_code (zx σ n0 bf).1 1002 = prog_5_method_3_code := rfl
theorem zq_1002 {σ : Nat → Nat} {n0 : Nat} {bf : ab_B} : ab_maxL (zx σ n0 bf).1 1002 = 6 := rfl
theorem zr_1002 {σ : Nat → Nat} {n0 : Nat} {bf : ab_B} : ab_ret (zx σ n0 bf).1 1002 = (Option.none : Option Jvm.ClassFile.FieldType) := rfl
theorem d_1002_0 {σ : Nat → Nat} {n0 : Nat} {bf : ab_B} : decode (ab_code (zx σ n0 bf).1 1002) 0 = .ok (.aload_n 0, 1) := zd zm_1002 (by decide +kernel)
theorem d_1002_1 {σ : Nat → Nat} {n0 : Nat} {bf : ab_B} : decode (ab_code (zx σ n0 bf).1 1002) 1 = .ok (.dup, 1) := zd zm_1002 (by decide +kernel)
theorem d_1002_2 {σ : Nat → Nat} {n0 : Nat} {bf : ab_B} : decode (ab_code (zx σ n0 bf).1 1002) 2 = .ok (.getfield 129, 3) := zd zm_1002 (by decide +kernel)
theorem d_1002_5 {σ : Nat → Nat} {n0 : Nat} {bf : ab_B} : decode (ab_code (zx σ n0 bf).1 1002) 5 = .ok (.iconst 1, 1) := zd zm_1002 (by decide +kernel)
theorem d_1002_6 {σ : Nat → Nat} {n0 : Nat} {bf : ab_B} : decode (ab_code (zx σ n0 bf).1 1002) 6 = .ok (.iadd, 1) := zd zm_1002 (by decide +kernel)
theorem d_1002_7 {σ : Nat → Nat} {n0 : Nat} {bf : ab_B} : decode (ab_code (zx σ n0 bf).1 1002) 7 = .ok (.putfield 129, 3) := zd zm_1002 (by decide +kernel)
theorem d_1002_10 {σ : Nat → Nat} {n0 : Nat} {bf : ab_B} : decode (ab_code (zx σ n0 bf).1 1002) 10 = .ok (.aload_n 0, 1) := zd zm_1002 (by decide +kernel)
theorem d_1002_11 {σ : Nat → Nat} {n0 : Nat} {bf : ab_B} : decode (ab_code (zx σ n0 bf).1 1002) 11 = .ok (.getfield 57, 3) := zd zm_1002 (by decide +kernel)
theorem d_1002_14 {σ : Nat → Nat} {n0 : Nat} {bf : ab_B} : decode (ab_code (zx σ n0 bf).1 1002) 14 = .ok (.aload_n 0, 1) := zd zm_1002 (by decide +kernel)
theorem d_1002_15 {σ : Nat → Nat} {n0 : Nat} {bf : ab_B} : decode (ab_code (zx σ n0 bf).1 1002) 15 = .ok (.getfield 129, 3) := zd zm_1002 (by decide +kernel)
theorem d_1002_18 {σ : Nat → Nat} {n0 : Nat} {bf : ab_B} : decode (ab_code (zx σ n0 bf).1 1002) 18 = .ok (.aload_n 1, 1) := zd zm_1002 (by decide +kernel)
theorem d_1002_19 {σ : Nat → Nat} {n0 : Nat} {bf : ab_B} : decode (ab_code (zx σ n0 bf).1 1002) 19 = .ok (.aastore, 1) := zd zm_1002 (by decide +kernel)
theorem d_1002_20 {σ : Nat → Nat} {n0 : Nat} {bf : ab_B} : decode (ab_code (zx σ n0 bf).1 1002) 20 = .ok (.aload_n 0, 1) := zd zm_1002 (by decide +kernel)
theorem d_1002_21 {σ : Nat → Nat} {n0 : Nat} {bf : ab_B} : decode (ab_code (zx σ n0 bf).1 1002) 21 = .ok (.getfield 61, 3) := zd zm_1002 (by decide +kernel)
theorem d_1002_24 {σ : Nat → Nat} {n0 : Nat} {bf : ab_B} : decode (ab_code (zx σ n0 bf).1 1002) 24 = .ok (.aload_n 0, 1) := zd zm_1002 (by decide +kernel)
theorem d_1002_25 {σ : Nat → Nat} {n0 : Nat} {bf : ab_B} : decode (ab_code (zx σ n0 bf).1 1002) 25 = .ok (.getfield 129, 3) := zd zm_1002 (by decide +kernel)
theorem d_1002_28 {σ : Nat → Nat} {n0 : Nat} {bf : ab_B} : decode (ab_code (zx σ n0 bf).1 1002) 28 = .ok (.iload_n 2, 1) := zd zm_1002 (by decide +kernel)
theorem d_1002_29 {σ : Nat → Nat} {n0 : Nat} {bf : ab_B} : decode (ab_code (zx σ n0 bf).1 1002) 29 = .ok (.iastore, 1) := zd zm_1002 (by decide +kernel)
theorem d_1002_30 {σ : Nat → Nat} {n0 : Nat} {bf : ab_B} : decode (ab_code (zx σ n0 bf).1 1002) 30 = .ok (.aload_n 0, 1) := zd zm_1002 (by decide +kernel)
theorem d_1002_31 {σ : Nat → Nat} {n0 : Nat} {bf : ab_B} : decode (ab_code (zx σ n0 bf).1 1002) 31 = .ok (.getfield 64, 3) := zd zm_1002 (by decide +kernel)
theorem d_1002_34 {σ : Nat → Nat} {n0 : Nat} {bf : ab_B} : decode (ab_code (zx σ n0 bf).1 1002) 34 = .ok (.aload_n 0, 1) := zd zm_1002 (by decide +kernel)
theorem d_1002_35 {σ : Nat → Nat} {n0 : Nat} {bf : ab_B} : decode (ab_code (zx σ n0 bf).1 1002) 35 = .ok (.getfield 129, 3) := zd zm_1002 (by decide +kernel)
theorem d_1002_38 {σ : Nat → Nat} {n0 : Nat} {bf : ab_B} : decode (ab_code (zx σ n0 bf).1 1002) 38 = .ok (.iload_n 3, 1) := zd zm_1002 (by decide +kernel)
theorem d_1002_39 {σ : Nat → Nat} {n0 : Nat} {bf : ab_B} : decode (ab_code (zx σ n0 bf).1 1002) 39 = .ok (.iastore, 1) := zd zm_1002 (by decide +kernel)
theorem d_1002_40 {σ : Nat → Nat} {n0 : Nat} {bf : ab_B} : decode (ab_code (zx σ n0 bf).1 1002) 40 = .ok (.aload_n 0, 1) := zd zm_1002 (by decide +kernel)
theorem d_1002_41 {σ : Nat → Nat} {n0 : Nat} {bf : ab_B} : decode (ab_code (zx σ n0 bf).1 1002) 41 = .ok (.getfield 67, 3) := zd zm_1002 (by decide +kernel)
theorem d_1002_44 {σ : Nat → Nat} {n0 : Nat} {bf : ab_B} : decode (ab_code (zx σ n0 bf).1 1002) 44 = .ok (.aload_n 0, 1) := zd zm_1002 (by decide +kernel)
theorem d_1002_45 {σ : Nat → Nat} {n0 : Nat} {bf : ab_B} : decode (ab_code (zx σ n0 bf).1 1002) 45 = .ok (.getfield 129, 3) := zd zm_1002 (by decide +kernel)
theorem d_1002_48 {σ : Nat → Nat} {n0 : Nat} {bf : ab_B} : decode (ab_code (zx σ n0 bf).1 1002) 48 = .ok (.iload 4, 2) := zd zm_1002 (by decide +kernel)
theorem d_1002_50 {σ : Nat → Nat} {n0 : Nat} {bf : ab_B} : decode (ab_code (zx σ n0 bf).1 1002) 50 = .ok (.iastore, 1) := zd zm_1002 (by decide +kernel)
theorem d_1002_51 {σ : Nat → Nat} {n0 : Nat} {bf : ab_B} : decode (ab_code (zx σ n0 bf).1 1002) 51 = .ok (.aload_n 0, 1) := zd zm_1002 (by decide +kernel)
theorem d_1002_52 {σ : Nat → Nat} {n0 : Nat} {bf : ab_B} : decode (ab_code (zx σ n0 bf).1 1002) 52 = .ok (.getfield 70, 3) := zd zm_1002 (by decide +kernel)
theorem d_1002_55 {σ : Nat → Nat} {n0 : Nat} {bf : ab_B} : decode (ab_code (zx σ n0 bf).1 1002) 55 = .ok (.aload_n 0, 1) := zd zm_1002 (by decide +kernel)
theorem d_1002_56 {σ : Nat → Nat} {n0 : Nat} {bf : ab_B} : decode (ab_code (zx σ n0 bf).1 1002) 56 = .ok (.getfield 129, 3) := zd zm_1002 (by decide +kernel)
theorem d_1002_59 {σ : Nat → Nat} {n0 : Nat} {bf : ab_B} : decode (ab_code (zx σ n0 bf).1 1002) 59 = .ok (.aload_n 0, 1) := zd zm_1002 (by decide +kernel)
theorem d_1002_60 {σ : Nat → Nat} {n0 : Nat} {bf : ab_B} : decode (ab_code (zx σ n0 bf).1 1002) 60 = .ok (.getfield 120, 3) := zd zm_1002 (by decide +kernel)
theorem d_1002_63 {σ : Nat → Nat} {n0 : Nat} {bf : ab_B} : decode (ab_code (zx σ n0 bf).1 1002) 63 = .ok (.iastore, 1) := zd zm_1002 (by decide +kernel)
theorem d_1002_64 {σ : Nat → Nat} {n0 : Nat} {bf : ab_B} : decode (ab_code (zx σ n0 bf).1 1002) 64 = .ok (.aload_n 0, 1) := zd zm_1002 (by decide +kernel)
theorem d_1002_65 {σ : Nat → Nat} {n0 : Nat} {bf : ab_B} : decode (ab_code (zx σ n0 bf).1 1002) 65 = .ok (.getfield 73, 3) := zd zm_1002 (by decide +kernel)
theorem d_1002_68 {σ : Nat → Nat} {n0 : Nat} {bf : ab_B} : decode (ab_code (zx σ n0 bf).1 1002) 68 = .ok (.aload_n 0, 1) := zd zm_1002 (by decide +kernel)
theorem d_1002_69 {σ : Nat → Nat} {n0 : Nat} {bf : ab_B} : decode (ab_code (zx σ n0 bf).1 1002) 69 = .ok (.getfield 129, 3) := zd zm_1002 (by decide +kernel)
theorem d_1002_72 {σ : Nat → Nat} {n0 : Nat} {bf : ab_B} : decode (ab_code (zx σ n0 bf).1 1002) 72 = .ok (.aload_n 0, 1) := zd zm_1002 (by decide +kernel)
theorem d_1002_73 {σ : Nat → Nat} {n0 : Nat} {bf : ab_B} : decode (ab_code (zx σ n0 bf).1 1002) 73 = .ok (.getfield 123, 3) := zd zm_1002 (by decide +kernel)
theorem d_1002_76 {σ : Nat → Nat} {n0 : Nat} {bf : ab_B} : decode (ab_code (zx σ n0 bf).1 1002) 76 = .ok (.iastore, 1) := zd zm_1002 (by decide +kernel)
theorem d_1002_77 {σ : Nat → Nat} {n0 : Nat} {bf : ab_B} : decode (ab_code (zx σ n0 bf).1 1002) 77 = .ok (.aload_n 0, 1) := zd zm_1002 (by decide +kernel)
theorem d_1002_78 {σ : Nat → Nat} {n0 : Nat} {bf : ab_B} : decode (ab_code (zx σ n0 bf).1 1002) 78 = .ok (.getfield 76, 3) := zd zm_1002 (by decide +kernel)
theorem d_1002_81 {σ : Nat → Nat} {n0 : Nat} {bf : ab_B} : decode (ab_code (zx σ n0 bf).1 1002) 81 = .ok (.aload_n 0, 1) := zd zm_1002 (by decide +kernel)
theorem d_1002_82 {σ : Nat → Nat} {n0 : Nat} {bf : ab_B} : decode (ab_code (zx σ n0 bf).1 1002) 82 = .ok (.getfield 129, 3) := zd zm_1002 (by decide +kernel)
theorem d_1002_85 {σ : Nat → Nat} {n0 : Nat} {bf : ab_B} : decode (ab_code (zx σ n0 bf).1 1002) 85 = .ok (.aload_n 0, 1) := zd zm_1002 (by decide +kernel)
theorem d_1002_86 {σ : Nat → Nat} {n0 : Nat} {bf : ab_B} : decode (ab_code (zx σ n0 bf).1 1002) 86 = .ok (.getfield 126, 3) := zd zm_1002 (by decide +kernel)
theorem d_1002_89 {σ : Nat → Nat} {n0 : Nat} {bf : ab_B} : decode (ab_code (zx σ n0 bf).1 1002) 89 = .ok (.iastore, 1) := zd zm_1002 (by decide +kernel)
theorem d_1002_90 {σ : Nat → Nat} {n0 : Nat} {bf : ab_B} : decode (ab_code (zx σ n0 bf).1 1002) 90 = .ok (.aload_n 0, 1) := zd zm_1002 (by decide +kernel)
theorem d_1002_91 {σ : Nat → Nat} {n0 : Nat} {bf : ab_B} : decode (ab_code (zx σ n0 bf).1 1002) 91 = .ok (.getfield 79, 3) := zd zm_1002 (by decide +kernel)
theorem d_1002_94 {σ : Nat → Nat} {n0 : Nat} {bf : ab_B} : decode (ab_code (zx σ n0 bf).1 1002) 94 = .ok (.aload_n 0, 1) := zd zm_1002 (by decide +kernel)
theorem d_1002_95 {σ : Nat → Nat} {n0 : Nat} {bf : ab_B} : decode (ab_code (zx σ n0 bf).1 1002) 95 = .ok (.getfield 129, 3) := zd zm_1002 (by decide +kernel)
theorem d_1002_98 {σ : Nat → Nat} {n0 : Nat} {bf : ab_B} : decode (ab_code (zx σ n0 bf).1 1002) 98 = .ok (.iconst (-1), 1) := zd zm_1002 (by decide +kernel)
theorem d_1002_99 {σ : Nat → Nat} {n0 : Nat} {bf : ab_B} : decode (ab_code (zx σ n0 bf).1 1002) 99 = .ok (.iastore, 1) := zd zm_1002 (by decide +kernel)
theorem d_1002_100 {σ : Nat → Nat} {n0 : Nat} {bf : ab_B} : decode (ab_code (zx σ n0 bf).1 1002) 100 = .ok (.iconst 0, 1) := zd zm_1002 (by decide +kernel)
theorem d_1002_101 {σ : Nat → Nat} {n0 : Nat} {bf : ab_B} : decode (ab_code (zx σ n0 bf).1 1002) 101 = .ok (.istore 5, 2) := zd zm_1002 (by decide +kernel)
theorem d_1002_103 {σ : Nat → Nat} {n0 : Nat} {bf : ab_B} : decode (ab_code (zx σ n0 bf).1 1002) 103 = .ok (.iload 5, 2) := zd zm_1002 (by decide +kernel)
theorem d_1002_105 {σ : Nat → Nat} {n0 : Nat} {bf : ab_B} : decode (ab_code (zx σ n0 bf).1 1002) 105 = .ok (.aload_n 1, 1) := zd zm_1002 (by decide +kernel)
theorem d_1002_106 {σ : Nat → Nat} {n0 : Nat} {bf : ab_B} : decode (ab_code (zx σ n0 bf).1 1002) 106 = .ok (.getfield 178, 3) := zd zm_1002 (by decide +kernel)
theorem d_1002_109 {σ : Nat → Nat} {n0 : Nat} {bf : ab_B} : decode (ab_code (zx σ n0 bf).1 1002) 109 = .ok (.if_icmp .ge 35, 3) := zd zm_1002 (by decide +kernel)
theorem d_1002_112 {σ : Nat → Nat} {n0 : Nat} {bf : ab_B} : decode (ab_code (zx σ n0 bf).1 1002) 112 = .ok (.aload_n 0, 1) := zd zm_1002 (by decide +kernel)
theorem d_1002_113 {σ : Nat → Nat} {n0 : Nat} {bf : ab_B} : decode (ab_code (zx σ n0 bf).1 1002) 113 = .ok (.getfield 120, 3) := zd zm_1002 (by decide +kernel)
theorem d_1002_116 {σ : Nat → Nat} {n0 : Nat} {bf : ab_B} : decode (ab_code (zx σ n0 bf).1 1002) 116 = .ok (.iload 5, 2) := zd zm_1002 (by decide +kernel)
theorem d_1002_118 {σ : Nat → Nat} {n0 : Nat} {bf : ab_B} : decode (ab_code (zx σ n0 bf).1 1002) 118 = .ok (.iadd, 1) := zd zm_1002 (by decide +kernel)
theorem d_1002_119 {σ : Nat → Nat} {n0 : Nat} {bf : ab_B} : decode (ab_code (zx σ n0 bf).1 1002) 119 = .ok (.sipush 20000, 3) := zd zm_1002 (by decide +kernel)
theorem d_1002_122 {σ : Nat → Nat} {n0 : Nat} {bf : ab_B} : decode (ab_code (zx σ n0 bf).1 1002) 122 = .ok (.if_icmp .gt 22, 3) := zd zm_1002 (by decide +kernel)
theorem d_1002_125 {σ : Nat → Nat} {n0 : Nat} {bf : ab_B} : decode (ab_code (zx σ n0 bf).1 1002) 125 = .ok (.aload_n 0, 1) := zd zm_1002 (by decide +kernel)
theorem d_1002_126 {σ : Nat → Nat} {n0 : Nat} {bf : ab_B} : decode (ab_code (zx σ n0 bf).1 1002) 126 = .ok (.getfield 49, 3) := zd zm_1002 (by decide +kernel)
theorem d_1002_129 {σ : Nat → Nat} {n0 : Nat} {bf : ab_B} : decode (ab_code (zx σ n0 bf).1 1002) 129 = .ok (.aload_n 0, 1) := zd zm_1002 (by decide +kernel)
theorem d_1002_130 {σ : Nat → Nat} {n0 : Nat} {bf : ab_B} : decode (ab_code (zx σ n0 bf).1 1002) 130 = .ok (.getfield 120, 3) := zd zm_1002 (by decide +kernel)
theorem d_1002_133 {σ : Nat → Nat} {n0 : Nat} {bf : ab_B} : decode (ab_code (zx σ n0 bf).1 1002) 133 = .ok (.iload 5, 2) := zd zm_1002 (by decide +kernel)
theorem d_1002_135 {σ : Nat → Nat} {n0 : Nat} {bf : ab_B} : decode (ab_code (zx σ n0 bf).1 1002) 135 = .ok (.iadd, 1) := zd zm_1002 (by decide +kernel)
theorem d_1002_136 {σ : Nat → Nat} {n0 : Nat} {bf : ab_B} : decode (ab_code (zx σ n0 bf).1 1002) 136 = .ok (.iconst (-1), 1) := zd zm_1002 (by decide +kernel)
theorem d_1002_137 {σ : Nat → Nat} {n0 : Nat} {bf : ab_B} : decode (ab_code (zx σ n0 bf).1 1002) 137 = .ok (.iastore, 1) := zd zm_1002 (by decide +kernel)
theorem d_1002_138 {σ : Nat → Nat} {n0 : Nat} {bf : ab_B} : decode (ab_code (zx σ n0 bf).1 1002) 138 = .ok (.iinc 5 1, 3) := zd zm_1002 (by decide +kernel)
theorem d_1002_141 {σ : Nat → Nat} {n0 : Nat} {bf : ab_B} : decode (ab_code (zx σ n0 bf).1 1002) 141 = .ok (.goto (-38), 3) := zd zm_1002 (by decide +kernel)
theorem d_1002_144 {σ : Nat → Nat} {n0 : Nat} {bf : ab_B} : decode (ab_code (zx σ n0 bf).1 1002) 144 = .ok (.aload_n 0, 1) := zd zm_1002 (by decide +kernel)
theorem d_1002_145 {σ : Nat → Nat} {n0 : Nat} {bf : ab_B} : decode (ab_code (zx σ n0 bf).1 1002) 145 = .ok (.dup, 1) := zd zm_1002 (by decide +kernel)
theorem d_1002_146 {σ : Nat → Nat} {n0 : Nat} {bf : ab_B} : decode (ab_code (zx σ n0 bf).1 1002) 146 = .ok (.getfield 120, 3) := zd zm_1002 (by decide +kernel)
theorem d_1002_149 {σ : Nat → Nat} {n0 : Nat} {bf : ab_B} : decode (ab_code (zx σ n0 bf).1 1002) 149 = .ok (.aload_n 1, 1) := zd zm_1002 (by decide +kernel)
theorem d_1002_150 {σ : Nat → Nat} {n0 : Nat} {bf : ab_B} : decode (ab_code (zx σ n0 bf).1 1002) 150 = .ok (.getfield 178, 3) := zd zm_1002 (by decide +kernel)
theorem d_1002_153 {σ : Nat → Nat} {n0 : Nat} {bf : ab_B} : decode (ab_code (zx σ n0 bf).1 1002) 153 = .ok (.iadd, 1) := zd zm_1002 (by decide +kernel)
theorem d_1002_154 {σ : Nat → Nat} {n0 : Nat} {bf : ab_B} : decode (ab_code (zx σ n0 bf).1 1002) 154 = .ok (.putfield 120, 3) := zd zm_1002 (by decide +kernel)
theorem d_1002_157 {σ : Nat → Nat} {n0 : Nat} {bf : ab_B} : decode (ab_code (zx σ n0 bf).1 1002) 157 = .ok (.return_, 1) := zd zm_1002 (by decide +kernel)
def w_X2_open_100 (X : zs_X) (d : Nat) (p0 : Nat) (p1 : Option Nat) (S : zs_T) (Q : zs_Q) : Prop :=
  (zs_U X d 1002 103 [(0, .ref p0), (1, va_rf p1), (5, .int (0 : Int32))] [] S Q)
theorem u_X2_open_100 {σ : Nat → Nat} {n0 : Nat} {bf : ab_B} {d : Nat} {p0 : Nat} {p1 : Option Nat} {S : zs_T} {Q : zs_Q} (hB : zt_B bf) (h : w_X2_open_100 (zx σ n0 bf) d p0 p1 S Q) : zs_U (zx σ n0 bf) d 1002 100 [(0, .ref p0), (1, va_rf p1)] [] S Q := by
  unfold w_X2_open_100 at h
  refine zu_iconst d_1002_100 zi_0 ?_
  refine zu_istore d_1002_101 (zs_lt zq_1002 rfl) ?_
  exact h.weak ⟨rfl, rfl, rfl, trivial⟩
def w_X2_open_64 (X : zs_X) (d : Nat) (p0 : Nat) (p1 : Option Nat) (S : zs_T) (Q : zs_Q) : Prop :=
  (zs_K S p0 = some (.inl 1) ∧ ∃ b2, (zs_R S 1022 p0) = some b2 ∧ zs_A S b2 0 (zs_I S 1025 p0) ∧ ab_n0 X.1 ≤ b2 ∧ ∀ S6, S6 = zs_si S b2 (zs_I S 1025 p0).toNatClampNeg (zs_I S 1015 p0) → ∃ b9, (zs_R S6 1023 p0) = some b9 ∧ zs_A S b9 0 (zs_I S6 1025 p0) ∧ ab_n0 X.1 ≤ b9 ∧ ∀ S13, S13 = zs_si S6 b9 (zs_I S6 1025 p0).toNatClampNeg (zs_I S6 1016 p0) → ∃ b16, (zs_R S13 1024 p0) = some b16 ∧ zs_A S b16 0 (zs_I S13 1025 p0) ∧ ab_n0 X.1 ≤ b16 ∧ ∀ S20, S20 = zs_si S13 b16 (zs_I S13 1025 p0).toNatClampNeg (-1 : Int32) → w_X2_open_100 X d p0 p1 S20 Q)
theorem u_X2_open_64 {σ : Nat → Nat} {n0 : Nat} {bf : ab_B} {d : Nat} {p0 : Nat} {p1 : Option Nat} {S : zs_T} {Q : zs_Q} (hB : zt_B bf) (h : w_X2_open_64 (zx σ n0 bf) d p0 p1 S Q) : zs_U (zx σ n0 bf) d 1002 64 [(0, .ref p0), (1, va_rf p1)] [] S Q := by
  unfold w_X2_open_64 at h
  refine zu_aload_n d_1002_64 rfl (zs_ra _) ?_
  obtain ⟨k1, h⟩ := h
  refine zg_1_73 rfl d_1002_65 k1 ?_
  refine zu_aload_n d_1002_68 rfl (zs_ra _) ?_
  refine zg_1_129 rfl d_1002_69 k1 ?_
  refine zu_aload_n d_1002_72 rfl (zs_ra _) ?_
  refine zg_1_123 rfl d_1002_73 k1 ?_
  obtain ⟨b2, e3, h⟩ := h
  refine zs_stk2 (zs_rfe e3) ?_
  obtain ⟨k4, h⟩ := h
  obtain ⟨k5, h⟩ := h
  refine zu_iast (k := 0) d_1002_76 rfl rfl k5 k4 ?_
  generalize e7 : zs_si S b2 (zs_I S 1025 p0).toNatClampNeg (zs_I S 1015 p0) = S6
  have h := h S6 e7.symm
  have K8 : ∀ b, zs_K S6 b = zs_K S b := zs_Kt e7 (zs_Ksi _ _ _ _) (fun _ => rfl)
  refine zu_aload_n d_1002_77 rfl (zs_ra _) ?_
  refine zg_1_76 rfl d_1002_78 ((K8 _).trans k1) ?_
  refine zu_aload_n d_1002_81 rfl (zs_ra _) ?_
  refine zg_1_129 rfl d_1002_82 ((K8 _).trans k1) ?_
  refine zu_aload_n d_1002_85 rfl (zs_ra _) ?_
  refine zg_1_126 rfl d_1002_86 ((K8 _).trans k1) ?_
  obtain ⟨b9, e10, h⟩ := h
  refine zs_stk2 (zs_rfe e10) ?_
  obtain ⟨k11, h⟩ := h
  obtain ⟨k12, h⟩ := h
  refine zu_iast (k := 0) d_1002_89 rfl rfl k12 (zs_Ak K8 k11) ?_
  generalize e14 : zs_si S6 b9 (zs_I S6 1025 p0).toNatClampNeg (zs_I S6 1016 p0) = S13
  have h := h S13 e14.symm
  have K15 : ∀ b, zs_K S13 b = zs_K S b := zs_Kt e14 (zs_Ksi _ _ _ _) K8
  refine zu_aload_n d_1002_90 rfl (zs_ra _) ?_
  refine zg_1_79 rfl d_1002_91 ((K15 _).trans k1) ?_
  refine zu_aload_n d_1002_94 rfl (zs_ra _) ?_
  refine zg_1_129 rfl d_1002_95 ((K15 _).trans k1) ?_
  refine zu_iconst d_1002_98 zi_m1 ?_
  obtain ⟨b16, e17, h⟩ := h
  refine zs_stk2 (zs_rfe e17) ?_
  obtain ⟨k18, h⟩ := h
  obtain ⟨k19, h⟩ := h
  refine zu_iast (k := 0) d_1002_99 rfl rfl k19 (zs_Ak K15 k18) ?_
  generalize e21 : zs_si S13 b16 (zs_I S13 1025 p0).toNatClampNeg (-1 : Int32) = S20
  have h := h S20 e21.symm
  have K22 : ∀ b, zs_K S20 b = zs_K S b := zs_Kt e21 (zs_Ksi _ _ _ _) K15
  exact (u_X2_open_100 hB h).weak ⟨rfl, rfl, trivial⟩
def w_X2_open_30 (X : zs_X) (d : Nat) (p0 : Nat) (p1 : Option Nat) (p3 : Int32) (p4 : Int32) (S : zs_T) (Q : zs_Q) : Prop :=
  (zs_K S p0 = some (.inl 1) ∧ ∃ b2, (zs_R S 1019 p0) = some b2 ∧ zs_A S b2 0 (zs_I S 1025 p0) ∧ ab_n0 X.1 ≤ b2 ∧ ∀ S6, S6 = zs_si S b2 (zs_I S 1025 p0).toNatClampNeg p3 → ∃ b9, (zs_R S6 1020 p0) = some b9 ∧ zs_A S b9 0 (zs_I S6 1025 p0) ∧ ab_n0 X.1 ≤ b9 ∧ ∀ S13, S13 = zs_si S6 b9 (zs_I S6 1025 p0).toNatClampNeg p4 → ∃ b16, (zs_R S13 1021 p0) = some b16 ∧ zs_A S b16 0 (zs_I S13 1025 p0) ∧ ab_n0 X.1 ≤ b16 ∧ ∀ S20, S20 = zs_si S13 b16 (zs_I S13 1025 p0).toNatClampNeg (zs_I S13 1014 p0) → w_X2_open_64 X d p0 p1 S20 Q)
theorem u_X2_open_30 {σ : Nat → Nat} {n0 : Nat} {bf : ab_B} {d : Nat} {p0 : Nat} {p1 : Option Nat} {p3 : Int32} {p4 : Int32} {S : zs_T} {Q : zs_Q} (hB : zt_B bf) (h : w_X2_open_30 (zx σ n0 bf) d p0 p1 p3 p4 S Q) : zs_U (zx σ n0 bf) d 1002 30 [(0, .ref p0), (1, va_rf p1), (3, .int p3), (4, .int p4)] [] S Q := by
  unfold w_X2_open_30 at h
  refine zu_aload_n d_1002_30 rfl (zs_ra _) ?_
  obtain ⟨k1, h⟩ := h
  refine zg_1_64 rfl d_1002_31 k1 ?_
  refine zu_aload_n d_1002_34 rfl (zs_ra _) ?_
  refine zg_1_129 rfl d_1002_35 k1 ?_
  refine zu_iload_n d_1002_38 rfl ?_
  obtain ⟨b2, e3, h⟩ := h
  refine zs_stk2 (zs_rfe e3) ?_
  obtain ⟨k4, h⟩ := h
  obtain ⟨k5, h⟩ := h
  refine zu_iast (k := 0) d_1002_39 rfl rfl k5 k4 ?_
  generalize e7 : zs_si S b2 (zs_I S 1025 p0).toNatClampNeg p3 = S6
  have h := h S6 e7.symm
  have K8 : ∀ b, zs_K S6 b = zs_K S b := zs_Kt e7 (zs_Ksi _ _ _ _) (fun _ => rfl)
  refine zu_aload_n d_1002_40 rfl (zs_ra _) ?_
  refine zg_1_67 rfl d_1002_41 ((K8 _).trans k1) ?_
  refine zu_aload_n d_1002_44 rfl (zs_ra _) ?_
  refine zg_1_129 rfl d_1002_45 ((K8 _).trans k1) ?_
  refine zu_iload d_1002_48 rfl ?_
  obtain ⟨b9, e10, h⟩ := h
  refine zs_stk2 (zs_rfe e10) ?_
  obtain ⟨k11, h⟩ := h
  obtain ⟨k12, h⟩ := h
  refine zu_iast (k := 0) d_1002_50 rfl rfl k12 (zs_Ak K8 k11) ?_
  generalize e14 : zs_si S6 b9 (zs_I S6 1025 p0).toNatClampNeg p4 = S13
  have h := h S13 e14.symm
  have K15 : ∀ b, zs_K S13 b = zs_K S b := zs_Kt e14 (zs_Ksi _ _ _ _) K8
  refine zu_aload_n d_1002_51 rfl (zs_ra _) ?_
  refine zg_1_70 rfl d_1002_52 ((K15 _).trans k1) ?_
  refine zu_aload_n d_1002_55 rfl (zs_ra _) ?_
  refine zg_1_129 rfl d_1002_56 ((K15 _).trans k1) ?_
  refine zu_aload_n d_1002_59 rfl (zs_ra _) ?_
  refine zg_1_120 rfl d_1002_60 ((K15 _).trans k1) ?_
  obtain ⟨b16, e17, h⟩ := h
  refine zs_stk2 (zs_rfe e17) ?_
  obtain ⟨k18, h⟩ := h
  obtain ⟨k19, h⟩ := h
  refine zu_iast (k := 0) d_1002_63 rfl rfl k19 (zs_Ak K15 k18) ?_
  generalize e21 : zs_si S13 b16 (zs_I S13 1025 p0).toNatClampNeg (zs_I S13 1014 p0) = S20
  have h := h S20 e21.symm
  have K22 : ∀ b, zs_K S20 b = zs_K S b := zs_Kt e21 (zs_Ksi _ _ _ _) K15
  exact (u_X2_open_64 hB h).weak ⟨rfl, rfl, trivial⟩
def w_X2_open_144 (X : zs_X) (d : Nat) (p0 : Nat) (p1 : Option Nat) (S : zs_T) (Q : zs_Q) : Prop :=
  (zs_K S p0 = some (.inl 1) ∧ ∃ b2, p1 = some b2 ∧ zs_K S b2 = some (.inl 10) ∧ ab_n0 X.1 ≤ p0 ∧ ∀ S6, S6 = zs_sI S 1014 p0 ((zs_I S 1014 p0) + (zs_I S 10009 b2)) → Q (.returned none) S6)
theorem u_X2_open_144 {σ : Nat → Nat} {n0 : Nat} {bf : ab_B} {d : Nat} {p0 : Nat} {p1 : Option Nat} {S : zs_T} {Q : zs_Q} (hB : zt_B bf) (h : w_X2_open_144 (zx σ n0 bf) d p0 p1 S Q) : zs_U (zx σ n0 bf) d 1002 144 [(0, .ref p0), (1, va_rf p1)] [] S Q := by
  unfold w_X2_open_144 at h
  refine zu_aload_n d_1002_144 rfl (zs_ra _) ?_
  refine zu_dup d_1002_145 rfl ?_
  obtain ⟨k1, h⟩ := h
  refine zg_1_120 rfl d_1002_146 k1 ?_
  refine zu_aload_n d_1002_149 rfl (zs_rr _) ?_
  obtain ⟨b2, e3, h⟩ := h
  refine zs_stk0 (zs_rfe e3) ?_
  obtain ⟨k4, h⟩ := h
  refine zg_1_178 rfl d_1002_150 k4 ?_
  refine zu_stk d_1002_153 rfl rfl ?_
  obtain ⟨k5, h⟩ := h
  refine zp_1_120 (v := ((zs_I S 1014 p0) + (zs_I S 10009 b2))) rfl d_1002_154 k1 k5 ?_
  generalize e7 : zs_sI S 1014 p0 ((zs_I S 1014 p0) + (zs_I S 10009 b2)) = S6
  have h := h S6 e7.symm
  have K8 : ∀ b, zs_K S6 b = zs_K S b := zs_Kt e7 (zs_KsI _ _ _ _) (fun _ => rfl)
  exact zu_vret d_1002_157 zr_1002 h
def w_X2_open_138 (X : zs_X) (d : Nat) (p0 : Nat) (p1 : Option Nat) (p5 : Int32) (S : zs_T) (Q : zs_Q) : Prop :=
  (zs_U X d 1002 103 [(0, .ref p0), (1, va_rf p1), (5, .int (p5 + (1 : Int32)))] [] S Q)
theorem u_X2_open_138 {σ : Nat → Nat} {n0 : Nat} {bf : ab_B} {d : Nat} {p0 : Nat} {p1 : Option Nat} {p5 : Int32} {S : zs_T} {Q : zs_Q} (hB : zt_B bf) (h : w_X2_open_138 (zx σ n0 bf) d p0 p1 p5 S Q) : zs_U (zx σ n0 bf) d 1002 138 [(0, .ref p0), (1, va_rf p1), (5, .int p5)] [] S Q := by
  unfold w_X2_open_138 at h
  refine zu_iinc d_1002_138 rfl zi_1 (zs_lt zq_1002 rfl) ?_
  refine zu_goto (t := 103) d_1002_141 rfl ?_
  exact h.weak ⟨rfl, rfl, rfl, trivial⟩
def w_X2_open_103 (X : zs_X) (d : Nat) (p0 : Nat) (p1 : Option Nat) (p5 : Int32) (S : zs_T) (Q : zs_Q) : Prop :=
  (∃ b1, p1 = some b1 ∧ zs_K S b1 = some (.inl 10) ∧ (((zs_I S 10009 b1) ≤ p5 → w_X2_open_144 X d p0 p1 S Q) ∧ (¬ ((zs_I S 10009 b1) ≤ p5) → (zs_K S p0 = some (.inl 1) ∧ (((20000 : Int32) < ((zs_I S 1014 p0) + p5) → w_X2_open_144 X d p0 p1 S Q) ∧ (¬ ((20000 : Int32) < ((zs_I S 1014 p0) + p5)) → (∃ b7, (zs_R S 1012 p0) = some b7 ∧ zs_A S b7 0 ((zs_I S 1014 p0) + p5) ∧ ab_n0 X.1 ≤ b7 ∧ ∀ S11, S11 = zs_si S b7 ((zs_I S 1014 p0) + p5).toNatClampNeg (-1 : Int32) → w_X2_open_138 X d p0 p1 p5 S11 Q)))))))
theorem u_X2_open_103 {σ : Nat → Nat} {n0 : Nat} {bf : ab_B} {d : Nat} {p0 : Nat} {p1 : Option Nat} {p5 : Int32} {S : zs_T} {Q : zs_Q} (hB : zt_B bf) (h : w_X2_open_103 (zx σ n0 bf) d p0 p1 p5 S Q) : zs_U (zx σ n0 bf) d 1002 103 [(0, .ref p0), (1, va_rf p1), (5, .int p5)] [] S Q := by
  unfold w_X2_open_103 at h
  refine zu_iload d_1002_103 rfl ?_
  refine zu_aload_n d_1002_105 rfl (zs_rr _) ?_
  obtain ⟨b1, e2, h⟩ := h
  refine zs_stk0 (zs_rfe e2) ?_
  obtain ⟨k3, h⟩ := h
  refine zg_1_178 rfl d_1002_106 k3 ?_
  refine zu_cmpge (t := 144) d_1002_109 rfl (fun c4 => ?_) (fun c4 => ?_)
  · have h := h.1 c4
    exact (u_X2_open_144 hB h).weak ⟨rfl, rfl, trivial⟩
  · have h := h.2 c4
    refine zu_aload_n d_1002_112 rfl (zs_ra _) ?_
    obtain ⟨k5, h⟩ := h
    refine zg_1_120 rfl d_1002_113 k5 ?_
    refine zu_iload d_1002_116 rfl ?_
    refine zu_stk d_1002_118 rfl rfl ?_
    refine zu_sipush d_1002_119 zh_20000 ?_
    refine zu_cmpgt (t := 144) d_1002_122 rfl (fun c6 => ?_) (fun c6 => ?_)
    · have h := h.1 c6
      exact (u_X2_open_144 hB h).weak ⟨rfl, rfl, trivial⟩
    · have h := h.2 c6
      refine zu_aload_n d_1002_125 rfl (zs_ra _) ?_
      refine zg_1_49 rfl d_1002_126 k5 ?_
      refine zu_aload_n d_1002_129 rfl (zs_ra _) ?_
      refine zg_1_120 rfl d_1002_130 k5 ?_
      refine zu_iload d_1002_133 rfl ?_
      refine zu_stk d_1002_135 rfl rfl ?_
      refine zu_iconst d_1002_136 zi_m1 ?_
      obtain ⟨b7, e8, h⟩ := h
      refine zs_stk2 (zs_rfe e8) ?_
      obtain ⟨k9, h⟩ := h
      obtain ⟨k10, h⟩ := h
      refine zu_iast (k := 0) d_1002_137 rfl rfl k10 k9 ?_
      generalize e12 : zs_si S b7 ((zs_I S 1014 p0) + p5).toNatClampNeg (-1 : Int32) = S11
      have h := h S11 e12.symm
      have K13 : ∀ b, zs_K S11 b = zs_K S b := zs_Kt e12 (zs_Ksi _ _ _ _) (fun _ => rfl)
      exact (u_X2_open_138 hB h).weak ⟨rfl, rfl, rfl, trivial⟩
def w_X2_open (X : zs_X) (d : Nat) (p0 : Nat) (p1 : Option Nat) (p2 : Int32) (p3 : Int32) (p4 : Int32) (S : zs_T) (Q : zs_Q) : Prop :=
  (zs_K S p0 = some (.inl 1) ∧ ab_n0 X.1 ≤ p0 ∧ ∀ S3, S3 = zs_sI S 1025 p0 ((zs_I S 1025 p0) + (1 : Int32)) → ∃ b6, (zs_R S3 1017 p0) = some b6 ∧ zs_A S b6 5 (zs_I S3 1025 p0) ∧ ab_n0 X.1 ≤ b6 ∧ ∃ b10, p1 = some b10 ∧ zs_K S b10 = some (.inl 10) ∧ ∀ S13, S13 = zs_sr S3 b6 (zs_I S3 1025 p0).toNatClampNeg (some b10) → ∃ b16, (zs_R S13 1018 p0) = some b16 ∧ zs_A S b16 0 (zs_I S13 1025 p0) ∧ ab_n0 X.1 ≤ b16 ∧ ∀ S20, S20 = zs_si S13 b16 (zs_I S13 1025 p0).toNatClampNeg p2 → w_X2_open_30 X d p0 p1 p3 p4 S20 Q)
theorem u_X2_open {σ : Nat → Nat} {n0 : Nat} {bf : ab_B} {d : Nat} {p0 : Nat} {p1 : Option Nat} {p2 : Int32} {p3 : Int32} {p4 : Int32} {S : zs_T} {Q : zs_Q} (hB : zt_B bf) (hd : 1 ≤ d) (h : w_X2_open (zx σ n0 bf) (d - 1) p0 p1 p2 p3 p4 S Q) : zs_C (zx σ n0 bf) d 1002 [.ref p0, va_rf p1, .int p2, .int p3, .int p4] S Q := by
  have hL : lv_args 0 [.ref p0, va_rf p1, .int p2, .int p3, .int p4] = [(0, .ref p0), (1, va_rf p1), (2, .int p2), (3, .int p3), (4, .int p4)] := by simp [lv_args, zs_cat, zs_cI, zs_cJ, zs_cA]
  refine zs_C.of1 (hB.2 1002 (by decide) (by decide)) hd (by rw [hL]; exact zs_sub_self _ (by exact ⟨rfl, rfl, rfl, rfl, rfl, trivial⟩)) ?_
  rw [hL]
  clear hL
  unfold w_X2_open at h
  refine zu_aload_n d_1002_0 rfl (zs_ra _) ?_
  refine zu_dup d_1002_1 rfl ?_
  obtain ⟨k1, h⟩ := h
  refine zg_1_129 rfl d_1002_2 k1 ?_
  refine zu_iconst d_1002_5 zi_1 ?_
  refine zu_stk d_1002_6 rfl rfl ?_
  obtain ⟨k2, h⟩ := h
  refine zp_1_129 (v := ((zs_I S 1025 p0) + (1 : Int32))) rfl d_1002_7 k1 k2 ?_
  generalize e4 : zs_sI S 1025 p0 ((zs_I S 1025 p0) + (1 : Int32)) = S3
  have h := h S3 e4.symm
  have K5 : ∀ b, zs_K S3 b = zs_K S b := zs_Kt e4 (zs_KsI _ _ _ _) (fun _ => rfl)
  refine zu_aload_n d_1002_10 rfl (zs_ra _) ?_
  refine zg_1_57 rfl d_1002_11 ((K5 _).trans k1) ?_
  refine zu_aload_n d_1002_14 rfl (zs_ra _) ?_
  refine zg_1_129 rfl d_1002_15 ((K5 _).trans k1) ?_
  refine zu_aload_n d_1002_18 rfl (zs_rr _) ?_
  obtain ⟨b6, e7, h⟩ := h
  refine zs_stk2 (zs_rfe e7) ?_
  obtain ⟨k8, h⟩ := h
  obtain ⟨k9, h⟩ := h
  obtain ⟨b10, e11, h⟩ := h
  refine zs_stk0 (zs_rfe e11) ?_
  obtain ⟨k12, h⟩ := h
  refine zu_aast (k := 5) (C := "") d_1002_19 rfl (by show zt_cs 5 10 = true; decide +kernel) ((K5 _).trans k12) k9 (zs_Ak K5 k8) ?_
  generalize e14 : zs_sr S3 b6 (zs_I S3 1025 p0).toNatClampNeg (some b10) = S13
  have h := h S13 e14.symm
  have K15 : ∀ b, zs_K S13 b = zs_K S b := zs_Kt e14 (zs_Ksr _ _ _ _) K5
  refine zu_aload_n d_1002_20 rfl (zs_ra _) ?_
  refine zg_1_61 rfl d_1002_21 ((K15 _).trans k1) ?_
  refine zu_aload_n d_1002_24 rfl (zs_ra _) ?_
  refine zg_1_129 rfl d_1002_25 ((K15 _).trans k1) ?_
  refine zu_iload_n d_1002_28 rfl ?_
  obtain ⟨b16, e17, h⟩ := h
  refine zs_stk2 (zs_rfe e17) ?_
  obtain ⟨k18, h⟩ := h
  obtain ⟨k19, h⟩ := h
  refine zu_iast (k := 0) d_1002_29 rfl rfl k19 (zs_Ak K15 k18) ?_
  generalize e21 : zs_si S13 b16 (zs_I S13 1025 p0).toNatClampNeg p2 = S20
  have h := h S20 e21.symm
  have K22 : ∀ b, zs_K S20 b = zs_K S b := zs_Kt e21 (zs_Ksi _ _ _ _) K15
  exact (u_X2_open_30 hB h).weak ⟨rfl, rfl, rfl, rfl, trivial⟩
/-! SchemaPascal$Machine.take(JI)Z -/
theorem zm_1003 {σ : Nat → Nat} {n0 : Nat} {bf : ab_B} : ab_code (zx σ n0 bf).1 1003 = prog_5_method_5_code := rfl
theorem zq_1003 {σ : Nat → Nat} {n0 : Nat} {bf : ab_B} : ab_maxL (zx σ n0 bf).1 1003 = 4 := rfl
theorem zr_1003 {σ : Nat → Nat} {n0 : Nat} {bf : ab_B} : ab_ret (zx σ n0 bf).1 1003 = (Option.some Jvm.ClassFile.FieldType.boolean) := rfl
theorem d_1003_0 {σ : Nat → Nat} {n0 : Nat} {bf : ab_B} : decode (ab_code (zx σ n0 bf).1 1003) 0 = .ok (.aload_n 0, 1) := zd zm_1003 (by decide +kernel)
theorem d_1003_1 {σ : Nat → Nat} {n0 : Nat} {bf : ab_B} : decode (ab_code (zx σ n0 bf).1 1003) 1 = .ok (.getfield 126, 3) := zd zm_1003 (by decide +kernel)
theorem d_1003_4 {σ : Nat → Nat} {n0 : Nat} {bf : ab_B} : decode (ab_code (zx σ n0 bf).1 1003) 4 = .ok (.i2l, 1) := zd zm_1003 (by decide +kernel)
theorem d_1003_5 {σ : Nat → Nat} {n0 : Nat} {bf : ab_B} : decode (ab_code (zx σ n0 bf).1 1003) 5 = .ok (.lload_n 1, 1) := zd zm_1003 (by decide +kernel)
theorem d_1003_6 {σ : Nat → Nat} {n0 : Nat} {bf : ab_B} : decode (ab_code (zx σ n0 bf).1 1003) 6 = .ok (.ladd, 1) := zd zm_1003 (by decide +kernel)
theorem d_1003_7 {σ : Nat → Nat} {n0 : Nat} {bf : ab_B} : decode (ab_code (zx σ n0 bf).1 1003) 7 = .ok (.ldc2_w 192, 3) := zd zm_1003 (by decide +kernel)
theorem d_1003_10 {σ : Nat → Nat} {n0 : Nat} {bf : ab_B} : decode (ab_code (zx σ n0 bf).1 1003) 10 = .ok (.lcmp, 1) := zd zm_1003 (by decide +kernel)
theorem d_1003_11 {σ : Nat → Nat} {n0 : Nat} {bf : ab_B} : decode (ab_code (zx σ n0 bf).1 1003) 11 = .ok (.ifCond .le 11, 3) := zd zm_1003 (by decide +kernel)
theorem d_1003_14 {σ : Nat → Nat} {n0 : Nat} {bf : ab_B} : decode (ab_code (zx σ n0 bf).1 1003) 14 = .ok (.aload_n 0, 1) := zd zm_1003 (by decide +kernel)
theorem d_1003_15 {σ : Nat → Nat} {n0 : Nat} {bf : ab_B} : decode (ab_code (zx σ n0 bf).1 1003) 15 = .ok (.bipush 11, 2) := zd zm_1003 (by decide +kernel)
theorem d_1003_17 {σ : Nat → Nat} {n0 : Nat} {bf : ab_B} : decode (ab_code (zx σ n0 bf).1 1003) 17 = .ok (.iload_n 3, 1) := zd zm_1003 (by decide +kernel)
theorem d_1003_18 {σ : Nat → Nat} {n0 : Nat} {bf : ab_B} : decode (ab_code (zx σ n0 bf).1 1003) 18 = .ok (.invokevirtual 194, 3) := zd zm_1003 (by decide +kernel)
theorem d_1003_21 {σ : Nat → Nat} {n0 : Nat} {bf : ab_B} : decode (ab_code (zx σ n0 bf).1 1003) 21 = .ok (.ireturn, 1) := zd zm_1003 (by decide +kernel)
theorem d_1003_22 {σ : Nat → Nat} {n0 : Nat} {bf : ab_B} : decode (ab_code (zx σ n0 bf).1 1003) 22 = .ok (.aload_n 0, 1) := zd zm_1003 (by decide +kernel)
theorem d_1003_23 {σ : Nat → Nat} {n0 : Nat} {bf : ab_B} : decode (ab_code (zx σ n0 bf).1 1003) 23 = .ok (.dup, 1) := zd zm_1003 (by decide +kernel)
theorem d_1003_24 {σ : Nat → Nat} {n0 : Nat} {bf : ab_B} : decode (ab_code (zx σ n0 bf).1 1003) 24 = .ok (.getfield 126, 3) := zd zm_1003 (by decide +kernel)
theorem d_1003_27 {σ : Nat → Nat} {n0 : Nat} {bf : ab_B} : decode (ab_code (zx σ n0 bf).1 1003) 27 = .ok (.lload_n 1, 1) := zd zm_1003 (by decide +kernel)
theorem d_1003_28 {σ : Nat → Nat} {n0 : Nat} {bf : ab_B} : decode (ab_code (zx σ n0 bf).1 1003) 28 = .ok (.l2i, 1) := zd zm_1003 (by decide +kernel)
theorem d_1003_29 {σ : Nat → Nat} {n0 : Nat} {bf : ab_B} : decode (ab_code (zx σ n0 bf).1 1003) 29 = .ok (.iadd, 1) := zd zm_1003 (by decide +kernel)
theorem d_1003_30 {σ : Nat → Nat} {n0 : Nat} {bf : ab_B} : decode (ab_code (zx σ n0 bf).1 1003) 30 = .ok (.putfield 126, 3) := zd zm_1003 (by decide +kernel)
theorem d_1003_33 {σ : Nat → Nat} {n0 : Nat} {bf : ab_B} : decode (ab_code (zx σ n0 bf).1 1003) 33 = .ok (.iconst 1, 1) := zd zm_1003 (by decide +kernel)
theorem d_1003_34 {σ : Nat → Nat} {n0 : Nat} {bf : ab_B} : decode (ab_code (zx σ n0 bf).1 1003) 34 = .ok (.ireturn, 1) := zd zm_1003 (by decide +kernel)
def w_X2_take (X : zs_X) (d : Nat) (p0 : Nat) (p1 : Int64) (p3 : Int32) (S : zs_T) (Q : zs_Q) : Prop :=
  (zs_K S p0 = some (.inl 1) ∧ ((((((zs_I S 1016 p0)).toInt64) + p1) ≤ (20000 : Int64) → (ab_n0 X.1 ≤ p0 ∧ ∀ S4, S4 = zs_sI S 1016 p0 ((zs_I S 1016 p0) + ((p1).toInt32)) → Q (.returned (some (.int (1 : Int32)))) S4)) ∧ (¬ (((((zs_I S 1016 p0)).toInt64) + p1) ≤ (20000 : Int64)) → (zs_C X d 1004 [.ref p0, .int (11 : Int32), .int p3] S (zs_kI (fun v8 S7 => (zs_b v8 ∧ Q (.returned (some (.int v8))) S7)) Q)))))
theorem u_X2_take {σ : Nat → Nat} {n0 : Nat} {bf : ab_B} {d : Nat} {p0 : Nat} {p1 : Int64} {p3 : Int32} {S : zs_T} {Q : zs_Q} (hB : zt_B bf) (hd : 1 ≤ d) (h : w_X2_take (zx σ n0 bf) (d - 1) p0 p1 p3 S Q) : zs_C (zx σ n0 bf) d 1003 [.ref p0, .long p1, .int p3] S Q := by
  have hL : lv_args 0 [.ref p0, .long p1, .int p3] = [(0, .ref p0), (1, .long p1), (3, .int p3)] := rfl
  refine zs_C.of1 (hB.2 1003 (by decide) (by decide)) hd (by rw [hL]; exact zs_sub_self _ (by exact ⟨rfl, rfl, rfl, trivial⟩)) ?_
  rw [hL]
  clear hL
  unfold w_X2_take at h
  refine zu_aload_n d_1003_0 rfl (zs_ra _) ?_
  obtain ⟨k1, h⟩ := h
  refine zg_1_126 rfl d_1003_1 k1 ?_
  refine zu_stk d_1003_4 rfl rfl ?_
  refine zu_lload_n d_1003_5 rfl ?_
  refine zu_stk d_1003_6 rfl rfl ?_
  refine zl2_1_192 rfl d_1003_7 ?_
  refine zu_lle (t := 22) d_1003_10 d_1003_11 rfl (fun c2 => ?_) (fun c2 => ?_)
  · have h := h.1 c2
    refine zu_aload_n d_1003_22 rfl (zs_ra _) ?_
    refine zu_dup d_1003_23 rfl ?_
    refine zg_1_126 rfl d_1003_24 k1 ?_
    refine zu_lload_n d_1003_27 rfl ?_
    refine zu_stk d_1003_28 rfl rfl ?_
    refine zu_stk d_1003_29 rfl rfl ?_
    obtain ⟨k3, h⟩ := h
    refine zp_1_126 (v := ((zs_I S 1016 p0) + ((p1).toInt32))) rfl d_1003_30 k1 k3 ?_
    generalize e5 : zs_sI S 1016 p0 ((zs_I S 1016 p0) + ((p1).toInt32)) = S4
    have h := h S4 e5.symm
    have K6 : ∀ b, zs_K S4 b = zs_K S b := zs_Kt e5 (zs_KsI _ _ _ _) (fun _ => rfl)
    refine zu_iconst d_1003_33 zi_1 ?_
    exact zu_iret d_1003_34 zr_1003 (zs_b_n (Or.inr rfl)) h
  · have h := h.2 c2
    refine zu_aload_n d_1003_14 rfl (zs_ra _) ?_
    refine zu_bipush d_1003_15 zj_11 ?_
    refine zu_iload_n d_1003_17 rfl ?_
    refine zc_1_194 (x0 := (11 : Int32)) (x1 := p3) hB rfl k1 d_1003_18 (Nat.le_of_ble_eq_true rfl) h (fun v8 S7 h => ?_)
    obtain ⟨k9, h⟩ := h
    exact zu_iret d_1003_21 zr_1003 (zs_b_n k9) h
/-! SchemaPascal$Machine.fail(II)Z -/
theorem zm_1004 {σ : Nat → Nat} {n0 : Nat} {bf : ab_B} : ab_code (zx σ n0 bf).1 1004 = prog_5_method_4_code := rfl
theorem zq_1004 {σ : Nat → Nat} {n0 : Nat} {bf : ab_B} : ab_maxL (zx σ n0 bf).1 1004 = 3 := rfl
theorem zr_1004 {σ : Nat → Nat} {n0 : Nat} {bf : ab_B} : ab_ret (zx σ n0 bf).1 1004 = (Option.some Jvm.ClassFile.FieldType.boolean) := rfl
theorem d_1004_0 {σ : Nat → Nat} {n0 : Nat} {bf : ab_B} : decode (ab_code (zx σ n0 bf).1 1004) 0 = .ok (.aload_n 0, 1) := zd zm_1004 (by decide +kernel)
theorem d_1004_1 {σ : Nat → Nat} {n0 : Nat} {bf : ab_B} : decode (ab_code (zx σ n0 bf).1 1004) 1 = .ok (.iload_n 1, 1) := zd zm_1004 (by decide +kernel)
theorem d_1004_2 {σ : Nat → Nat} {n0 : Nat} {bf : ab_B} : decode (ab_code (zx σ n0 bf).1 1004) 2 = .ok (.putfield 144, 3) := zd zm_1004 (by decide +kernel)
theorem d_1004_5 {σ : Nat → Nat} {n0 : Nat} {bf : ab_B} : decode (ab_code (zx σ n0 bf).1 1004) 5 = .ok (.aload_n 0, 1) := zd zm_1004 (by decide +kernel)
theorem d_1004_6 {σ : Nat → Nat} {n0 : Nat} {bf : ab_B} : decode (ab_code (zx σ n0 bf).1 1004) 6 = .ok (.iload_n 2, 1) := zd zm_1004 (by decide +kernel)
theorem d_1004_7 {σ : Nat → Nat} {n0 : Nat} {bf : ab_B} : decode (ab_code (zx σ n0 bf).1 1004) 7 = .ok (.putfield 97, 3) := zd zm_1004 (by decide +kernel)
theorem d_1004_10 {σ : Nat → Nat} {n0 : Nat} {bf : ab_B} : decode (ab_code (zx σ n0 bf).1 1004) 10 = .ok (.aload_n 0, 1) := zd zm_1004 (by decide +kernel)
theorem d_1004_11 {σ : Nat → Nat} {n0 : Nat} {bf : ab_B} : decode (ab_code (zx σ n0 bf).1 1004) 11 = .ok (.iconst 1, 1) := zd zm_1004 (by decide +kernel)
theorem d_1004_12 {σ : Nat → Nat} {n0 : Nat} {bf : ab_B} : decode (ab_code (zx σ n0 bf).1 1004) 12 = .ok (.putfield 151, 3) := zd zm_1004 (by decide +kernel)
theorem d_1004_15 {σ : Nat → Nat} {n0 : Nat} {bf : ab_B} : decode (ab_code (zx σ n0 bf).1 1004) 15 = .ok (.iconst 0, 1) := zd zm_1004 (by decide +kernel)
theorem d_1004_16 {σ : Nat → Nat} {n0 : Nat} {bf : ab_B} : decode (ab_code (zx σ n0 bf).1 1004) 16 = .ok (.ireturn, 1) := zd zm_1004 (by decide +kernel)
def w_X2_fail (X : zs_X) (d : Nat) (p0 : Nat) (p1 : Int32) (p2 : Int32) (S : zs_T) (Q : zs_Q) : Prop :=
  (zs_K S p0 = some (.inl 1) ∧ ab_n0 X.1 ≤ p0 ∧ ∀ S3, S3 = zs_sI S 1036 p0 p1 → ∀ S6, S6 = zs_sI S3 1037 p0 p2 → ∀ S9, S9 = zs_sI S6 1039 p0 (1 : Int32) → Q (.returned (some (.int (0 : Int32)))) S9)
theorem u_X2_fail {σ : Nat → Nat} {n0 : Nat} {bf : ab_B} {d : Nat} {p0 : Nat} {p1 : Int32} {p2 : Int32} {S : zs_T} {Q : zs_Q} (hB : zt_B bf) (hd : 1 ≤ d) (h : w_X2_fail (zx σ n0 bf) (d - 1) p0 p1 p2 S Q) : zs_C (zx σ n0 bf) d 1004 [.ref p0, .int p1, .int p2] S Q := by
  have hL : lv_args 0 [.ref p0, .int p1, .int p2] = [(0, .ref p0), (1, .int p1), (2, .int p2)] := rfl
  refine zs_C.of1 (hB.2 1004 (by decide) (by decide)) hd (by rw [hL]; exact zs_sub_self _ (by exact ⟨rfl, rfl, rfl, trivial⟩)) ?_
  rw [hL]
  clear hL
  unfold w_X2_fail at h
  refine zu_aload_n d_1004_0 rfl (zs_ra _) ?_
  refine zu_iload_n d_1004_1 rfl ?_
  obtain ⟨k1, h⟩ := h
  obtain ⟨k2, h⟩ := h
  refine zp_1_144 (v := p1) rfl d_1004_2 k1 k2 ?_
  generalize e4 : zs_sI S 1036 p0 p1 = S3
  have h := h S3 e4.symm
  have K5 : ∀ b, zs_K S3 b = zs_K S b := zs_Kt e4 (zs_KsI _ _ _ _) (fun _ => rfl)
  refine zu_aload_n d_1004_5 rfl (zs_ra _) ?_
  refine zu_iload_n d_1004_6 rfl ?_
  refine zp_1_97 (v := p2) rfl d_1004_7 ((K5 _).trans k1) k2 ?_
  generalize e7 : zs_sI S3 1037 p0 p2 = S6
  have h := h S6 e7.symm
  have K8 : ∀ b, zs_K S6 b = zs_K S b := zs_Kt e7 (zs_KsI _ _ _ _) K5
  refine zu_aload_n d_1004_10 rfl (zs_ra _) ?_
  refine zu_iconst d_1004_11 zi_1 ?_
  refine zp_1_151 (v := (1 : Int32)) rfl d_1004_12 ((K8 _).trans k1) k2 (Or.inr rfl) ?_
  generalize e10 : zs_sI S6 1039 p0 (1 : Int32) = S9
  have h := h S9 e10.symm
  have K11 : ∀ b, zs_K S9 b = zs_K S b := zs_Kt e10 (zs_KsI _ _ _ _) K8
  refine zu_iconst d_1004_15 zi_0 ?_
  exact zu_iret d_1004_16 zr_1004 (zs_b_n (Or.inl rfl)) h
/-! SchemaPascal$Machine.step(I)I -/
theorem zm_1005 {σ : Nat → Nat} {n0 : Nat} {bf : ab_B} : ab_code (zx σ n0 bf).1 1005 = prog_5_method_6_code := rfl
theorem zq_1005 {σ : Nat → Nat} {n0 : Nat} {bf : ab_B} : ab_maxL (zx σ n0 bf).1 1005 = 2 := rfl
theorem zr_1005 {σ : Nat → Nat} {n0 : Nat} {bf : ab_B} : ab_ret (zx σ n0 bf).1 1005 = (Option.some Jvm.ClassFile.FieldType.int) := rfl
theorem d_1005_0 {σ : Nat → Nat} {n0 : Nat} {bf : ab_B} : decode (ab_code (zx σ n0 bf).1 1005) 0 = .ok (.aload_n 0, 1) := zd zm_1005 (by decide +kernel)
theorem d_1005_1 {σ : Nat → Nat} {n0 : Nat} {bf : ab_B} : decode (ab_code (zx σ n0 bf).1 1005) 1 = .ok (.iload_n 1, 1) := zd zm_1005 (by decide +kernel)
theorem d_1005_2 {σ : Nat → Nat} {n0 : Nat} {bf : ab_B} : decode (ab_code (zx σ n0 bf).1 1005) 2 = .ok (.putfield 198, 3) := zd zm_1005 (by decide +kernel)
theorem d_1005_5 {σ : Nat → Nat} {n0 : Nat} {bf : ab_B} : decode (ab_code (zx σ n0 bf).1 1005) 5 = .ok (.aload_n 0, 1) := zd zm_1005 (by decide +kernel)
theorem d_1005_6 {σ : Nat → Nat} {n0 : Nat} {bf : ab_B} : decode (ab_code (zx σ n0 bf).1 1005) 6 = .ok (.getfield 151, 3) := zd zm_1005 (by decide +kernel)
theorem d_1005_9 {σ : Nat → Nat} {n0 : Nat} {bf : ab_B} : decode (ab_code (zx σ n0 bf).1 1005) 9 = .ok (.ifCond .ne 32, 3) := zd zm_1005 (by decide +kernel)
theorem d_1005_12 {σ : Nat → Nat} {n0 : Nat} {bf : ab_B} : decode (ab_code (zx σ n0 bf).1 1005) 12 = .ok (.aload_n 0, 1) := zd zm_1005 (by decide +kernel)
theorem d_1005_13 {σ : Nat → Nat} {n0 : Nat} {bf : ab_B} : decode (ab_code (zx σ n0 bf).1 1005) 13 = .ok (.getfield 107, 3) := zd zm_1005 (by decide +kernel)
theorem d_1005_16 {σ : Nat → Nat} {n0 : Nat} {bf : ab_B} : decode (ab_code (zx σ n0 bf).1 1005) 16 = .ok (.getfield 201, 3) := zd zm_1005 (by decide +kernel)
theorem d_1005_19 {σ : Nat → Nat} {n0 : Nat} {bf : ab_B} : decode (ab_code (zx σ n0 bf).1 1005) 19 = .ok (.aload_n 0, 1) := zd zm_1005 (by decide +kernel)
theorem d_1005_20 {σ : Nat → Nat} {n0 : Nat} {bf : ab_B} : decode (ab_code (zx σ n0 bf).1 1005) 20 = .ok (.getfield 175, 3) := zd zm_1005 (by decide +kernel)
theorem d_1005_23 {σ : Nat → Nat} {n0 : Nat} {bf : ab_B} : decode (ab_code (zx σ n0 bf).1 1005) 23 = .ok (.iaload, 1) := zd zm_1005 (by decide +kernel)
theorem d_1005_24 {σ : Nat → Nat} {n0 : Nat} {bf : ab_B} : decode (ab_code (zx σ n0 bf).1 1005) 24 = .ok (.ifCond .ne 10, 3) := zd zm_1005 (by decide +kernel)
theorem d_1005_27 {σ : Nat → Nat} {n0 : Nat} {bf : ab_B} : decode (ab_code (zx σ n0 bf).1 1005) 27 = .ok (.aload_n 0, 1) := zd zm_1005 (by decide +kernel)
theorem d_1005_28 {σ : Nat → Nat} {n0 : Nat} {bf : ab_B} : decode (ab_code (zx σ n0 bf).1 1005) 28 = .ok (.getfield 198, 3) := zd zm_1005 (by decide +kernel)
theorem d_1005_31 {σ : Nat → Nat} {n0 : Nat} {bf : ab_B} : decode (ab_code (zx σ n0 bf).1 1005) 31 = .ok (.ifCond .le 10, 3) := zd zm_1005 (by decide +kernel)
theorem d_1005_34 {σ : Nat → Nat} {n0 : Nat} {bf : ab_B} : decode (ab_code (zx σ n0 bf).1 1005) 34 = .ok (.aload_n 0, 1) := zd zm_1005 (by decide +kernel)
theorem d_1005_35 {σ : Nat → Nat} {n0 : Nat} {bf : ab_B} : decode (ab_code (zx σ n0 bf).1 1005) 35 = .ok (.invokevirtual 204, 3) := zd zm_1005 (by decide +kernel)
theorem d_1005_38 {σ : Nat → Nat} {n0 : Nat} {bf : ab_B} : decode (ab_code (zx σ n0 bf).1 1005) 38 = .ok (.goto (-33), 3) := zd zm_1005 (by decide +kernel)
theorem d_1005_41 {σ : Nat → Nat} {n0 : Nat} {bf : ab_B} : decode (ab_code (zx σ n0 bf).1 1005) 41 = .ok (.aload_n 0, 1) := zd zm_1005 (by decide +kernel)
theorem d_1005_42 {σ : Nat → Nat} {n0 : Nat} {bf : ab_B} : decode (ab_code (zx σ n0 bf).1 1005) 42 = .ok (.getfield 144, 3) := zd zm_1005 (by decide +kernel)
theorem d_1005_45 {σ : Nat → Nat} {n0 : Nat} {bf : ab_B} : decode (ab_code (zx σ n0 bf).1 1005) 45 = .ok (.ifCond .eq 7, 3) := zd zm_1005 (by decide +kernel)
theorem d_1005_48 {σ : Nat → Nat} {n0 : Nat} {bf : ab_B} : decode (ab_code (zx σ n0 bf).1 1005) 48 = .ok (.iconst 2, 1) := zd zm_1005 (by decide +kernel)
theorem d_1005_49 {σ : Nat → Nat} {n0 : Nat} {bf : ab_B} : decode (ab_code (zx σ n0 bf).1 1005) 49 = .ok (.goto 15, 3) := zd zm_1005 (by decide +kernel)
theorem d_1005_52 {σ : Nat → Nat} {n0 : Nat} {bf : ab_B} : decode (ab_code (zx σ n0 bf).1 1005) 52 = .ok (.aload_n 0, 1) := zd zm_1005 (by decide +kernel)
theorem d_1005_53 {σ : Nat → Nat} {n0 : Nat} {bf : ab_B} : decode (ab_code (zx σ n0 bf).1 1005) 53 = .ok (.getfield 151, 3) := zd zm_1005 (by decide +kernel)
theorem d_1005_56 {σ : Nat → Nat} {n0 : Nat} {bf : ab_B} : decode (ab_code (zx σ n0 bf).1 1005) 56 = .ok (.ifCond .eq 7, 3) := zd zm_1005 (by decide +kernel)
theorem d_1005_59 {σ : Nat → Nat} {n0 : Nat} {bf : ab_B} : decode (ab_code (zx σ n0 bf).1 1005) 59 = .ok (.iconst 1, 1) := zd zm_1005 (by decide +kernel)
theorem d_1005_60 {σ : Nat → Nat} {n0 : Nat} {bf : ab_B} : decode (ab_code (zx σ n0 bf).1 1005) 60 = .ok (.goto 4, 3) := zd zm_1005 (by decide +kernel)
theorem d_1005_63 {σ : Nat → Nat} {n0 : Nat} {bf : ab_B} : decode (ab_code (zx σ n0 bf).1 1005) 63 = .ok (.iconst 0, 1) := zd zm_1005 (by decide +kernel)
theorem d_1005_64 {σ : Nat → Nat} {n0 : Nat} {bf : ab_B} : decode (ab_code (zx σ n0 bf).1 1005) 64 = .ok (.ireturn, 1) := zd zm_1005 (by decide +kernel)
def w_X2_step_41 (X : zs_X) (d : Nat) (p0 : Nat) (S : zs_T) (Q : zs_Q) : Prop :=
  (zs_K S p0 = some (.inl 1) ∧ (((zs_I S 1036 p0) = 0 → ((((zs_I S 1039 p0) = 0 → (Q (.returned (some (.int (0 : Int32)))) S)) ∧ (¬ ((zs_I S 1039 p0) = 0) → (Q (.returned (some (.int (1 : Int32)))) S))))) ∧ (¬ ((zs_I S 1036 p0) = 0) → (Q (.returned (some (.int (2 : Int32)))) S))))
theorem u_X2_step_41 {σ : Nat → Nat} {n0 : Nat} {bf : ab_B} {d : Nat} {p0 : Nat} {S : zs_T} {Q : zs_Q} (hB : zt_B bf) (h : w_X2_step_41 (zx σ n0 bf) d p0 S Q) : zs_U (zx σ n0 bf) d 1005 41 [(0, .ref p0)] [] S Q := by
  unfold w_X2_step_41 at h
  refine zu_aload_n d_1005_41 rfl (zs_ra _) ?_
  obtain ⟨k1, h⟩ := h
  refine zg_1_144 rfl d_1005_42 k1 ?_
  refine zu_ifeq (t := 52) d_1005_45 rfl (fun c2 => ?_) (fun c2 => ?_)
  · have h := h.1 c2
    refine zu_aload_n d_1005_52 rfl (zs_ra _) ?_
    refine zg_1_151 rfl d_1005_53 k1 ?_
    refine zu_ifeq (t := 63) d_1005_56 rfl (fun c3 => ?_) (fun c3 => ?_)
    · have h := h.1 c3
      refine zu_iconst d_1005_63 zi_0 ?_
      exact zu_iret d_1005_64 zr_1005 rfl h
    · have h := h.2 c3
      refine zu_iconst d_1005_59 zi_1 ?_
      refine zu_goto (t := 64) d_1005_60 rfl ?_
      exact zu_iret d_1005_64 zr_1005 rfl h
  · have h := h.2 c2
    refine zu_iconst d_1005_48 zi_2 ?_
    refine zu_goto (t := 64) d_1005_49 rfl ?_
    exact zu_iret d_1005_64 zr_1005 rfl h
def w_X2_step_34 (X : zs_X) (d : Nat) (p0 : Nat) (S : zs_T) (Q : zs_Q) : Prop :=
  (zs_K S p0 = some (.inl 1) ∧ zs_C X d 1006 [.ref p0] S (zs_kV (fun S2 => (zs_U X d 1005 5 [(0, .ref p0)] [] S2 Q)) Q))
theorem u_X2_step_34 {σ : Nat → Nat} {n0 : Nat} {bf : ab_B} {d : Nat} {p0 : Nat} {S : zs_T} {Q : zs_Q} (hB : zt_B bf) (h : w_X2_step_34 (zx σ n0 bf) d p0 S Q) : zs_U (zx σ n0 bf) d 1005 34 [(0, .ref p0)] [] S Q := by
  unfold w_X2_step_34 at h
  refine zu_aload_n d_1005_34 rfl (zs_ra _) ?_
  obtain ⟨k1, h⟩ := h
  refine zc_1_204  hB rfl k1 d_1005_35 (Nat.le_of_ble_eq_true rfl) h (fun S2 h => ?_)
  refine zu_goto (t := 5) d_1005_38 rfl ?_
  exact h.weak ⟨rfl, trivial⟩
def w_X2_step_5 (X : zs_X) (d : Nat) (p0 : Nat) (S : zs_T) (Q : zs_Q) : Prop :=
  (zs_K S p0 = some (.inl 1) ∧ ((¬ (zs_I S 1039 p0) = 0 → w_X2_step_41 X d p0 S Q) ∧ (¬ (¬ (zs_I S 1039 p0) = 0) → (∃ b3, (zs_R S 1000 p0) = some b3 ∧ zs_K S b3 = some (.inl 3) ∧ ∃ b6, (zs_R S 3000 b3) = some b6 ∧ zs_A S b6 0 (zs_I S 1033 p0) ∧ ((¬ (zs_i S b6 (zs_I S 1033 p0).toNatClampNeg) = 0 → w_X2_step_34 X d p0 S Q) ∧ (¬ (¬ (zs_i S b6 (zs_I S 1033 p0).toNatClampNeg) = 0) → ((((zs_I S 1035 p0) ≤ 0 → w_X2_step_41 X d p0 S Q) ∧ (¬ ((zs_I S 1035 p0) ≤ 0) → w_X2_step_34 X d p0 S Q)))))))))
theorem u_X2_step_5 {σ : Nat → Nat} {n0 : Nat} {bf : ab_B} {d : Nat} {p0 : Nat} {S : zs_T} {Q : zs_Q} (hB : zt_B bf) (h : w_X2_step_5 (zx σ n0 bf) d p0 S Q) : zs_U (zx σ n0 bf) d 1005 5 [(0, .ref p0)] [] S Q := by
  unfold w_X2_step_5 at h
  refine zu_aload_n d_1005_5 rfl (zs_ra _) ?_
  obtain ⟨k1, h⟩ := h
  refine zg_1_151 rfl d_1005_6 k1 ?_
  refine zu_ifne (t := 41) d_1005_9 rfl (fun c2 => ?_) (fun c2 => ?_)
  · have h := h.1 c2
    exact (u_X2_step_41 hB h).weak ⟨rfl, trivial⟩
  · have h := h.2 c2
    refine zu_aload_n d_1005_12 rfl (zs_ra _) ?_
    refine zg_1_107 rfl d_1005_13 k1 ?_
    obtain ⟨b3, e4, h⟩ := h
    refine zs_stk0 (zs_rfe e4) ?_
    obtain ⟨k5, h⟩ := h
    refine zg_1_201 rfl d_1005_16 k5 ?_
    refine zu_aload_n d_1005_19 rfl (zs_ra _) ?_
    refine zg_1_175 rfl d_1005_20 k1 ?_
    obtain ⟨b6, e7, h⟩ := h
    refine zs_stk1 (zs_rfe e7) ?_
    obtain ⟨k8, h⟩ := h
    refine zu_iald (k := 0) d_1005_23 rfl rfl k8 ?_
    refine zu_ifne (t := 34) d_1005_24 rfl (fun c9 => ?_) (fun c9 => ?_)
    · have h := h.1 c9
      exact (u_X2_step_34 hB h).weak ⟨rfl, trivial⟩
    · have h := h.2 c9
      refine zu_aload_n d_1005_27 rfl (zs_ra _) ?_
      refine zg_1_198 rfl d_1005_28 k1 ?_
      refine zu_ifle (t := 41) d_1005_31 rfl (fun c10 => ?_) (fun c10 => ?_)
      · have h := h.1 c10
        exact (u_X2_step_41 hB h).weak ⟨rfl, trivial⟩
      · have h := h.2 c10
        exact (u_X2_step_34 hB h).weak ⟨rfl, trivial⟩
def w_X2_step (X : zs_X) (d : Nat) (p0 : Nat) (p1 : Int32) (S : zs_T) (Q : zs_Q) : Prop :=
  (zs_K S p0 = some (.inl 1) ∧ ab_n0 X.1 ≤ p0 ∧ ∀ S3, S3 = zs_sI S 1035 p0 p1 → zs_U X d 1005 5 [(0, .ref p0)] [] S3 Q)
theorem u_X2_step {σ : Nat → Nat} {n0 : Nat} {bf : ab_B} {d : Nat} {p0 : Nat} {p1 : Int32} {S : zs_T} {Q : zs_Q} (hB : zt_B bf) (hd : 1 ≤ d) (h : w_X2_step (zx σ n0 bf) (d - 1) p0 p1 S Q) : zs_C (zx σ n0 bf) d 1005 [.ref p0, .int p1] S Q := by
  have hL : lv_args 0 [.ref p0, .int p1] = [(0, .ref p0), (1, .int p1)] := rfl
  refine zs_C.of1 (hB.2 1005 (by decide) (by decide)) hd (by rw [hL]; exact zs_sub_self _ (by exact ⟨rfl, rfl, trivial⟩)) ?_
  rw [hL]
  clear hL
  unfold w_X2_step at h
  refine zu_aload_n d_1005_0 rfl (zs_ra _) ?_
  refine zu_iload_n d_1005_1 rfl ?_
  obtain ⟨k1, h⟩ := h
  obtain ⟨k2, h⟩ := h
  refine zp_1_198 (v := p1) rfl d_1005_2 k1 k2 ?_
  generalize e4 : zs_sI S 1035 p0 p1 = S3
  have h := h S3 e4.symm
  have K5 : ∀ b, zs_K S3 b = zs_K S b := zs_Kt e4 (zs_KsI _ _ _ _) (fun _ => rfl)
  exact h.weak ⟨rfl, trivial⟩
/-! SchemaPascal$Machine.one()V -/
theorem zm_1006 {σ : Nat → Nat} {n0 : Nat} {bf : ab_B} : ab_code (zx σ n0 bf).1 1006 = prog_5_method_7_code := rfl
theorem zq_1006 {σ : Nat → Nat} {n0 : Nat} {bf : ab_B} : ab_maxL (zx σ n0 bf).1 1006 = 5 := rfl
theorem zr_1006 {σ : Nat → Nat} {n0 : Nat} {bf : ab_B} : ab_ret (zx σ n0 bf).1 1006 = (Option.none : Option Jvm.ClassFile.FieldType) := rfl
theorem d_1006_0 {σ : Nat → Nat} {n0 : Nat} {bf : ab_B} : decode (ab_code (zx σ n0 bf).1 1006) 0 = .ok (.aload_n 0, 1) := zd zm_1006 (by decide +kernel)
theorem d_1006_1 {σ : Nat → Nat} {n0 : Nat} {bf : ab_B} : decode (ab_code (zx σ n0 bf).1 1006) 1 = .ok (.getfield 107, 3) := zd zm_1006 (by decide +kernel)
theorem d_1006_4 {σ : Nat → Nat} {n0 : Nat} {bf : ab_B} : decode (ab_code (zx σ n0 bf).1 1006) 4 = .ok (.getfield 201, 3) := zd zm_1006 (by decide +kernel)
theorem d_1006_7 {σ : Nat → Nat} {n0 : Nat} {bf : ab_B} : decode (ab_code (zx σ n0 bf).1 1006) 7 = .ok (.astore_n 1, 1) := zd zm_1006 (by decide +kernel)
theorem d_1006_8 {σ : Nat → Nat} {n0 : Nat} {bf : ab_B} : decode (ab_code (zx σ n0 bf).1 1006) 8 = .ok (.aload_n 1, 1) := zd zm_1006 (by decide +kernel)
theorem d_1006_9 {σ : Nat → Nat} {n0 : Nat} {bf : ab_B} : decode (ab_code (zx σ n0 bf).1 1006) 9 = .ok (.aload_n 0, 1) := zd zm_1006 (by decide +kernel)
theorem d_1006_10 {σ : Nat → Nat} {n0 : Nat} {bf : ab_B} : decode (ab_code (zx σ n0 bf).1 1006) 10 = .ok (.getfield 175, 3) := zd zm_1006 (by decide +kernel)
theorem d_1006_13 {σ : Nat → Nat} {n0 : Nat} {bf : ab_B} : decode (ab_code (zx σ n0 bf).1 1006) 13 = .ok (.iaload, 1) := zd zm_1006 (by decide +kernel)
theorem d_1006_14 {σ : Nat → Nat} {n0 : Nat} {bf : ab_B} : decode (ab_code (zx σ n0 bf).1 1006) 14 = .ok (.istore_n 2, 1) := zd zm_1006 (by decide +kernel)
theorem d_1006_15 {σ : Nat → Nat} {n0 : Nat} {bf : ab_B} : decode (ab_code (zx σ n0 bf).1 1006) 15 = .ok (.aload_n 1, 1) := zd zm_1006 (by decide +kernel)
theorem d_1006_16 {σ : Nat → Nat} {n0 : Nat} {bf : ab_B} : decode (ab_code (zx σ n0 bf).1 1006) 16 = .ok (.aload_n 0, 1) := zd zm_1006 (by decide +kernel)
theorem d_1006_17 {σ : Nat → Nat} {n0 : Nat} {bf : ab_B} : decode (ab_code (zx σ n0 bf).1 1006) 17 = .ok (.getfield 175, 3) := zd zm_1006 (by decide +kernel)
theorem d_1006_20 {σ : Nat → Nat} {n0 : Nat} {bf : ab_B} : decode (ab_code (zx σ n0 bf).1 1006) 20 = .ok (.iconst 1, 1) := zd zm_1006 (by decide +kernel)
theorem d_1006_21 {σ : Nat → Nat} {n0 : Nat} {bf : ab_B} : decode (ab_code (zx σ n0 bf).1 1006) 21 = .ok (.iadd, 1) := zd zm_1006 (by decide +kernel)
theorem d_1006_22 {σ : Nat → Nat} {n0 : Nat} {bf : ab_B} : decode (ab_code (zx σ n0 bf).1 1006) 22 = .ok (.iaload, 1) := zd zm_1006 (by decide +kernel)
theorem d_1006_23 {σ : Nat → Nat} {n0 : Nat} {bf : ab_B} : decode (ab_code (zx σ n0 bf).1 1006) 23 = .ok (.istore_n 3, 1) := zd zm_1006 (by decide +kernel)
theorem d_1006_24 {σ : Nat → Nat} {n0 : Nat} {bf : ab_B} : decode (ab_code (zx σ n0 bf).1 1006) 24 = .ok (.aload_n 0, 1) := zd zm_1006 (by decide +kernel)
theorem d_1006_25 {σ : Nat → Nat} {n0 : Nat} {bf : ab_B} : decode (ab_code (zx σ n0 bf).1 1006) 25 = .ok (.getfield 175, 3) := zd zm_1006 (by decide +kernel)
theorem d_1006_28 {σ : Nat → Nat} {n0 : Nat} {bf : ab_B} : decode (ab_code (zx σ n0 bf).1 1006) 28 = .ok (.istore 4, 2) := zd zm_1006 (by decide +kernel)
theorem d_1006_30 {σ : Nat → Nat} {n0 : Nat} {bf : ab_B} : decode (ab_code (zx σ n0 bf).1 1006) 30 = .ok (.aload_n 0, 1) := zd zm_1006 (by decide +kernel)
theorem d_1006_31 {σ : Nat → Nat} {n0 : Nat} {bf : ab_B} : decode (ab_code (zx σ n0 bf).1 1006) 31 = .ok (.dup, 1) := zd zm_1006 (by decide +kernel)
theorem d_1006_32 {σ : Nat → Nat} {n0 : Nat} {bf : ab_B} : decode (ab_code (zx σ n0 bf).1 1006) 32 = .ok (.getfield 175, 3) := zd zm_1006 (by decide +kernel)
theorem d_1006_35 {σ : Nat → Nat} {n0 : Nat} {bf : ab_B} : decode (ab_code (zx σ n0 bf).1 1006) 35 = .ok (.iconst 2, 1) := zd zm_1006 (by decide +kernel)
theorem d_1006_36 {σ : Nat → Nat} {n0 : Nat} {bf : ab_B} : decode (ab_code (zx σ n0 bf).1 1006) 36 = .ok (.aload_n 0, 1) := zd zm_1006 (by decide +kernel)
theorem d_1006_37 {σ : Nat → Nat} {n0 : Nat} {bf : ab_B} : decode (ab_code (zx σ n0 bf).1 1006) 37 = .ok (.iload_n 2, 1) := zd zm_1006 (by decide +kernel)
theorem d_1006_38 {σ : Nat → Nat} {n0 : Nat} {bf : ab_B} : decode (ab_code (zx σ n0 bf).1 1006) 38 = .ok (.iload 4, 2) := zd zm_1006 (by decide +kernel)
theorem d_1006_40 {σ : Nat → Nat} {n0 : Nat} {bf : ab_B} : decode (ab_code (zx σ n0 bf).1 1006) 40 = .ok (.invokevirtual 207, 3) := zd zm_1006 (by decide +kernel)
theorem d_1006_43 {σ : Nat → Nat} {n0 : Nat} {bf : ab_B} : decode (ab_code (zx σ n0 bf).1 1006) 43 = .ok (.iadd, 1) := zd zm_1006 (by decide +kernel)
theorem d_1006_44 {σ : Nat → Nat} {n0 : Nat} {bf : ab_B} : decode (ab_code (zx σ n0 bf).1 1006) 44 = .ok (.iadd, 1) := zd zm_1006 (by decide +kernel)
theorem d_1006_45 {σ : Nat → Nat} {n0 : Nat} {bf : ab_B} : decode (ab_code (zx σ n0 bf).1 1006) 45 = .ok (.putfield 175, 3) := zd zm_1006 (by decide +kernel)
theorem d_1006_48 {σ : Nat → Nat} {n0 : Nat} {bf : ab_B} : decode (ab_code (zx σ n0 bf).1 1006) 48 = .ok (.iload_n 2, 1) := zd zm_1006 (by decide +kernel)
theorem d_1006_49 {σ : Nat → Nat} {n0 : Nat} {bf : ab_B} : decode (ab_code (zx σ n0 bf).1 1006) 49 = .ok (.bipush 15, 2) := zd zm_1006 (by decide +kernel)
theorem d_1006_51 {σ : Nat → Nat} {n0 : Nat} {bf : ab_B} : decode (ab_code (zx σ n0 bf).1 1006) 51 = .ok (.if_icmp .gt 14, 3) := zd zm_1006 (by decide +kernel)
theorem d_1006_54 {σ : Nat → Nat} {n0 : Nat} {bf : ab_B} : decode (ab_code (zx σ n0 bf).1 1006) 54 = .ok (.aload_n 0, 1) := zd zm_1006 (by decide +kernel)
theorem d_1006_55 {σ : Nat → Nat} {n0 : Nat} {bf : ab_B} : decode (ab_code (zx σ n0 bf).1 1006) 55 = .ok (.iload_n 2, 1) := zd zm_1006 (by decide +kernel)
theorem d_1006_56 {σ : Nat → Nat} {n0 : Nat} {bf : ab_B} : decode (ab_code (zx σ n0 bf).1 1006) 56 = .ok (.iload_n 3, 1) := zd zm_1006 (by decide +kernel)
theorem d_1006_57 {σ : Nat → Nat} {n0 : Nat} {bf : ab_B} : decode (ab_code (zx σ n0 bf).1 1006) 57 = .ok (.iload 4, 2) := zd zm_1006 (by decide +kernel)
theorem d_1006_59 {σ : Nat → Nat} {n0 : Nat} {bf : ab_B} : decode (ab_code (zx σ n0 bf).1 1006) 59 = .ok (.invokevirtual 211, 3) := zd zm_1006 (by decide +kernel)
theorem d_1006_62 {σ : Nat → Nat} {n0 : Nat} {bf : ab_B} : decode (ab_code (zx σ n0 bf).1 1006) 62 = .ok (.goto 54, 3) := zd zm_1006 (by decide +kernel)
theorem d_1006_65 {σ : Nat → Nat} {n0 : Nat} {bf : ab_B} : decode (ab_code (zx σ n0 bf).1 1006) 65 = .ok (.iload_n 2, 1) := zd zm_1006 (by decide +kernel)
theorem d_1006_66 {σ : Nat → Nat} {n0 : Nat} {bf : ab_B} : decode (ab_code (zx σ n0 bf).1 1006) 66 = .ok (.bipush 35, 2) := zd zm_1006 (by decide +kernel)
theorem d_1006_68 {σ : Nat → Nat} {n0 : Nat} {bf : ab_B} : decode (ab_code (zx σ n0 bf).1 1006) 68 = .ok (.if_icmp .gt 14, 3) := zd zm_1006 (by decide +kernel)
theorem d_1006_71 {σ : Nat → Nat} {n0 : Nat} {bf : ab_B} : decode (ab_code (zx σ n0 bf).1 1006) 71 = .ok (.aload_n 0, 1) := zd zm_1006 (by decide +kernel)
theorem d_1006_72 {σ : Nat → Nat} {n0 : Nat} {bf : ab_B} : decode (ab_code (zx σ n0 bf).1 1006) 72 = .ok (.iload_n 2, 1) := zd zm_1006 (by decide +kernel)
theorem d_1006_73 {σ : Nat → Nat} {n0 : Nat} {bf : ab_B} : decode (ab_code (zx σ n0 bf).1 1006) 73 = .ok (.iload_n 3, 1) := zd zm_1006 (by decide +kernel)
theorem d_1006_74 {σ : Nat → Nat} {n0 : Nat} {bf : ab_B} : decode (ab_code (zx σ n0 bf).1 1006) 74 = .ok (.iload 4, 2) := zd zm_1006 (by decide +kernel)
theorem d_1006_76 {σ : Nat → Nat} {n0 : Nat} {bf : ab_B} : decode (ab_code (zx σ n0 bf).1 1006) 76 = .ok (.invokevirtual 215, 3) := zd zm_1006 (by decide +kernel)
theorem d_1006_79 {σ : Nat → Nat} {n0 : Nat} {bf : ab_B} : decode (ab_code (zx σ n0 bf).1 1006) 79 = .ok (.goto 37, 3) := zd zm_1006 (by decide +kernel)
theorem d_1006_82 {σ : Nat → Nat} {n0 : Nat} {bf : ab_B} : decode (ab_code (zx σ n0 bf).1 1006) 82 = .ok (.iload_n 2, 1) := zd zm_1006 (by decide +kernel)
theorem d_1006_83 {σ : Nat → Nat} {n0 : Nat} {bf : ab_B} : decode (ab_code (zx σ n0 bf).1 1006) 83 = .ok (.bipush 36, 2) := zd zm_1006 (by decide +kernel)
theorem d_1006_85 {σ : Nat → Nat} {n0 : Nat} {bf : ab_B} : decode (ab_code (zx σ n0 bf).1 1006) 85 = .ok (.if_icmp .ne 23, 3) := zd zm_1006 (by decide +kernel)
theorem d_1006_88 {σ : Nat → Nat} {n0 : Nat} {bf : ab_B} : decode (ab_code (zx σ n0 bf).1 1006) 88 = .ok (.aload_n 0, 1) := zd zm_1006 (by decide +kernel)
theorem d_1006_89 {σ : Nat → Nat} {n0 : Nat} {bf : ab_B} : decode (ab_code (zx σ n0 bf).1 1006) 89 = .ok (.aload_n 1, 1) := zd zm_1006 (by decide +kernel)
theorem d_1006_90 {σ : Nat → Nat} {n0 : Nat} {bf : ab_B} : decode (ab_code (zx σ n0 bf).1 1006) 90 = .ok (.iload 4, 2) := zd zm_1006 (by decide +kernel)
theorem d_1006_92 {σ : Nat → Nat} {n0 : Nat} {bf : ab_B} : decode (ab_code (zx σ n0 bf).1 1006) 92 = .ok (.iconst 2, 1) := zd zm_1006 (by decide +kernel)
theorem d_1006_93 {σ : Nat → Nat} {n0 : Nat} {bf : ab_B} : decode (ab_code (zx σ n0 bf).1 1006) 93 = .ok (.iadd, 1) := zd zm_1006 (by decide +kernel)
theorem d_1006_94 {σ : Nat → Nat} {n0 : Nat} {bf : ab_B} : decode (ab_code (zx σ n0 bf).1 1006) 94 = .ok (.iaload, 1) := zd zm_1006 (by decide +kernel)
theorem d_1006_95 {σ : Nat → Nat} {n0 : Nat} {bf : ab_B} : decode (ab_code (zx σ n0 bf).1 1006) 95 = .ok (.iload_n 3, 1) := zd zm_1006 (by decide +kernel)
theorem d_1006_96 {σ : Nat → Nat} {n0 : Nat} {bf : ab_B} : decode (ab_code (zx σ n0 bf).1 1006) 96 = .ok (.aload_n 1, 1) := zd zm_1006 (by decide +kernel)
theorem d_1006_97 {σ : Nat → Nat} {n0 : Nat} {bf : ab_B} : decode (ab_code (zx σ n0 bf).1 1006) 97 = .ok (.iload 4, 2) := zd zm_1006 (by decide +kernel)
theorem d_1006_99 {σ : Nat → Nat} {n0 : Nat} {bf : ab_B} : decode (ab_code (zx σ n0 bf).1 1006) 99 = .ok (.iconst 3, 1) := zd zm_1006 (by decide +kernel)
theorem d_1006_100 {σ : Nat → Nat} {n0 : Nat} {bf : ab_B} : decode (ab_code (zx σ n0 bf).1 1006) 100 = .ok (.iadd, 1) := zd zm_1006 (by decide +kernel)
theorem d_1006_101 {σ : Nat → Nat} {n0 : Nat} {bf : ab_B} : decode (ab_code (zx σ n0 bf).1 1006) 101 = .ok (.iaload, 1) := zd zm_1006 (by decide +kernel)
theorem d_1006_102 {σ : Nat → Nat} {n0 : Nat} {bf : ab_B} : decode (ab_code (zx σ n0 bf).1 1006) 102 = .ok (.invokevirtual 218, 3) := zd zm_1006 (by decide +kernel)
theorem d_1006_105 {σ : Nat → Nat} {n0 : Nat} {bf : ab_B} : decode (ab_code (zx σ n0 bf).1 1006) 105 = .ok (.goto 11, 3) := zd zm_1006 (by decide +kernel)
theorem d_1006_108 {σ : Nat → Nat} {n0 : Nat} {bf : ab_B} : decode (ab_code (zx σ n0 bf).1 1006) 108 = .ok (.aload_n 0, 1) := zd zm_1006 (by decide +kernel)
theorem d_1006_109 {σ : Nat → Nat} {n0 : Nat} {bf : ab_B} : decode (ab_code (zx σ n0 bf).1 1006) 109 = .ok (.iload_n 2, 1) := zd zm_1006 (by decide +kernel)
theorem d_1006_110 {σ : Nat → Nat} {n0 : Nat} {bf : ab_B} : decode (ab_code (zx σ n0 bf).1 1006) 110 = .ok (.iload_n 3, 1) := zd zm_1006 (by decide +kernel)
theorem d_1006_111 {σ : Nat → Nat} {n0 : Nat} {bf : ab_B} : decode (ab_code (zx σ n0 bf).1 1006) 111 = .ok (.iload 4, 2) := zd zm_1006 (by decide +kernel)
theorem d_1006_113 {σ : Nat → Nat} {n0 : Nat} {bf : ab_B} : decode (ab_code (zx σ n0 bf).1 1006) 113 = .ok (.invokevirtual 221, 3) := zd zm_1006 (by decide +kernel)
theorem d_1006_116 {σ : Nat → Nat} {n0 : Nat} {bf : ab_B} : decode (ab_code (zx σ n0 bf).1 1006) 116 = .ok (.return_, 1) := zd zm_1006 (by decide +kernel)
def w_X2_one_105 (X : zs_X) (d : Nat)  (S : zs_T) (Q : zs_Q) : Prop :=
  (Q (.returned none) S)
theorem u_X2_one_105 {σ : Nat → Nat} {n0 : Nat} {bf : ab_B} {d : Nat}  {S : zs_T} {Q : zs_Q} (hB : zt_B bf) (h : w_X2_one_105 (zx σ n0 bf) d  S Q) : zs_U (zx σ n0 bf) d 1006 105 [] [] S Q := by
  unfold w_X2_one_105 at h
  refine zu_goto (t := 116) d_1006_105 rfl ?_
  exact zu_vret d_1006_116 zr_1006 h
def w_X2_one_65 (X : zs_X) (d : Nat) (p0 : Nat) (p1 : Option Nat) (p2 : Int32) (p3 : Int32) (p4 : Int32) (S : zs_T) (Q : zs_Q) : Prop :=
  ((((35 : Int32) < p2 → (((¬ p2 = (36 : Int32) → (zs_K S p0 = some (.inl 1) ∧ zs_C X d 1041 [.ref p0, .int p2, .int p3, .int p4] S (zs_kV (fun S4 => (Q (.returned none) S4)) Q))) ∧ (¬ (¬ p2 = (36 : Int32)) → (∃ b6, p1 = some b6 ∧ zs_A S b6 0 (p4 + (2 : Int32)) ∧ zs_A S b6 0 (p4 + (3 : Int32)) ∧ zs_K S p0 = some (.inl 1) ∧ zs_C X d 1037 [.ref p0, .int (zs_i S b6 (p4 + (2 : Int32)).toNatClampNeg), .int p3, .int (zs_i S b6 (p4 + (3 : Int32)).toNatClampNeg)] S (zs_kV (fun S11 => w_X2_one_105 X d  S11 Q) Q)))))) ∧ (¬ ((35 : Int32) < p2) → (zs_K S p0 = some (.inl 1) ∧ zs_C X d 1031 [.ref p0, .int p2, .int p3, .int p4] S (zs_kV (fun S14 => (Q (.returned none) S14)) Q)))))
theorem u_X2_one_65 {σ : Nat → Nat} {n0 : Nat} {bf : ab_B} {d : Nat} {p0 : Nat} {p1 : Option Nat} {p2 : Int32} {p3 : Int32} {p4 : Int32} {S : zs_T} {Q : zs_Q} (hB : zt_B bf) (h : w_X2_one_65 (zx σ n0 bf) d p0 p1 p2 p3 p4 S Q) : zs_U (zx σ n0 bf) d 1006 65 [(0, .ref p0), (1, va_rf p1), (2, .int p2), (3, .int p3), (4, .int p4)] [] S Q := by
  unfold w_X2_one_65 at h
  refine zu_iload_n d_1006_65 rfl ?_
  refine zu_bipush d_1006_66 zj_35 ?_
  refine zu_cmpgt (t := 82) d_1006_68 rfl (fun c1 => ?_) (fun c1 => ?_)
  · have h := h.1 c1
    refine zu_iload_n d_1006_82 rfl ?_
    refine zu_bipush d_1006_83 zj_36 ?_
    refine zu_cmpne (t := 108) d_1006_85 rfl (fun c2 => ?_) (fun c2 => ?_)
    · have h := h.1 c2
      refine zu_aload_n d_1006_108 rfl (zs_ra _) ?_
      refine zu_iload_n d_1006_109 rfl ?_
      refine zu_iload_n d_1006_110 rfl ?_
      refine zu_iload d_1006_111 rfl ?_
      obtain ⟨k3, h⟩ := h
      refine zc_1_221 (x0 := p2) (x1 := p3) (x2 := p4) hB rfl k3 d_1006_113 (Nat.le_of_ble_eq_true rfl) h (fun S4 h => ?_)
      exact zu_vret d_1006_116 zr_1006 h
    · have h := h.2 c2
      refine zu_aload_n d_1006_88 rfl (zs_ra _) ?_
      refine zu_aload_n d_1006_89 rfl (zs_rr _) ?_
      refine zu_iload d_1006_90 rfl ?_
      refine zu_iconst d_1006_92 zi_2 ?_
      refine zu_stk d_1006_93 rfl rfl ?_
      obtain ⟨b6, e7, h⟩ := h
      refine zs_stk1 (zs_rfe e7) ?_
      obtain ⟨k8, h⟩ := h
      refine zu_iald (k := 0) d_1006_94 rfl rfl k8 ?_
      refine zu_iload_n d_1006_95 rfl ?_
      refine zu_aload_n d_1006_96 rfl (zs_rr _) ?_
      refine zu_iload d_1006_97 rfl ?_
      refine zu_iconst d_1006_99 zi_3 ?_
      refine zu_stk d_1006_100 rfl rfl ?_
      refine zs_stk1 (zs_rfe e7) ?_
      obtain ⟨k9, h⟩ := h
      refine zu_iald (k := 0) d_1006_101 rfl rfl k9 ?_
      obtain ⟨k10, h⟩ := h
      refine zc_1_218 (x0 := (zs_i S b6 (p4 + (2 : Int32)).toNatClampNeg)) (x1 := p3) (x2 := (zs_i S b6 (p4 + (3 : Int32)).toNatClampNeg)) hB rfl k10 d_1006_102 (Nat.le_of_ble_eq_true rfl) h (fun S11 h => ?_)
      exact (u_X2_one_105 hB h).weak trivial
  · have h := h.2 c1
    refine zu_aload_n d_1006_71 rfl (zs_ra _) ?_
    refine zu_iload_n d_1006_72 rfl ?_
    refine zu_iload_n d_1006_73 rfl ?_
    refine zu_iload d_1006_74 rfl ?_
    obtain ⟨k13, h⟩ := h
    refine zc_1_215 (x0 := p2) (x1 := p3) (x2 := p4) hB rfl k13 d_1006_76 (Nat.le_of_ble_eq_true rfl) h (fun S14 h => ?_)
    refine zu_goto (t := 116) d_1006_79 rfl ?_
    exact zu_vret d_1006_116 zr_1006 h
def w_X2_one_54 (X : zs_X) (d : Nat) (p0 : Nat) (p2 : Int32) (p3 : Int32) (p4 : Int32) (S : zs_T) (Q : zs_Q) : Prop :=
  (zs_K S p0 = some (.inl 1) ∧ zs_C X d 1008 [.ref p0, .int p2, .int p3, .int p4] S (zs_kV (fun S2 => (Q (.returned none) S2)) Q))
theorem u_X2_one_54 {σ : Nat → Nat} {n0 : Nat} {bf : ab_B} {d : Nat} {p0 : Nat} {p2 : Int32} {p3 : Int32} {p4 : Int32} {S : zs_T} {Q : zs_Q} (hB : zt_B bf) (h : w_X2_one_54 (zx σ n0 bf) d p0 p2 p3 p4 S Q) : zs_U (zx σ n0 bf) d 1006 54 [(0, .ref p0), (2, .int p2), (3, .int p3), (4, .int p4)] [] S Q := by
  unfold w_X2_one_54 at h
  refine zu_aload_n d_1006_54 rfl (zs_ra _) ?_
  refine zu_iload_n d_1006_55 rfl ?_
  refine zu_iload_n d_1006_56 rfl ?_
  refine zu_iload d_1006_57 rfl ?_
  obtain ⟨k1, h⟩ := h
  refine zc_1_211 (x0 := p2) (x1 := p3) (x2 := p4) hB rfl k1 d_1006_59 (Nat.le_of_ble_eq_true rfl) h (fun S2 h => ?_)
  refine zu_goto (t := 116) d_1006_62 rfl ?_
  exact zu_vret d_1006_116 zr_1006 h
def w_X2_one_24 (X : zs_X) (d : Nat) (p0 : Nat) (p1 : Option Nat) (p2 : Int32) (p3 : Int32) (S : zs_T) (Q : zs_Q) : Prop :=
  (zs_K S p0 = some (.inl 1) ∧ zs_C X d 1007 [.ref p0, .int p2, .int (zs_I S 1033 p0)] S (zs_kI (fun v3 S2 => (zs_K S2 p0 = some (.inl 1) ∧ ab_n0 X.1 ≤ p0 ∧ ∀ S6, S6 = zs_sI S2 1033 p0 ((zs_I S 1033 p0) + ((2 : Int32) + v3)) → (((15 : Int32) < p2 → w_X2_one_65 X d p0 p1 p2 p3 (zs_I S 1033 p0) S6 Q) ∧ (¬ ((15 : Int32) < p2) → w_X2_one_54 X d p0 p2 p3 (zs_I S 1033 p0) S6 Q)))) Q))
theorem u_X2_one_24 {σ : Nat → Nat} {n0 : Nat} {bf : ab_B} {d : Nat} {p0 : Nat} {p1 : Option Nat} {p2 : Int32} {p3 : Int32} {S : zs_T} {Q : zs_Q} (hB : zt_B bf) (h : w_X2_one_24 (zx σ n0 bf) d p0 p1 p2 p3 S Q) : zs_U (zx σ n0 bf) d 1006 24 [(0, .ref p0), (1, va_rf p1), (2, .int p2), (3, .int p3)] [] S Q := by
  unfold w_X2_one_24 at h
  refine zu_aload_n d_1006_24 rfl (zs_ra _) ?_
  obtain ⟨k1, h⟩ := h
  refine zg_1_175 rfl d_1006_25 k1 ?_
  refine zu_istore d_1006_28 (zs_lt zq_1006 rfl) ?_
  refine zu_aload_n d_1006_30 rfl (zs_ra _) ?_
  refine zu_dup d_1006_31 rfl ?_
  refine zg_1_175 rfl d_1006_32 k1 ?_
  refine zu_iconst d_1006_35 zi_2 ?_
  refine zu_aload_n d_1006_36 rfl (zs_ra _) ?_
  refine zu_iload_n d_1006_37 rfl ?_
  refine zu_iload d_1006_38 rfl ?_
  refine zc_1_207 (x0 := p2) (x1 := (zs_I S 1033 p0)) hB rfl k1 d_1006_40 (Nat.le_of_ble_eq_true rfl) h (fun v3 S2 h => ?_)
  refine zu_stk d_1006_43 rfl rfl ?_
  refine zu_stk d_1006_44 rfl rfl ?_
  obtain ⟨k4, h⟩ := h
  obtain ⟨k5, h⟩ := h
  refine zp_1_175 (v := ((zs_I S 1033 p0) + ((2 : Int32) + v3))) rfl d_1006_45 k4 k5 ?_
  generalize e7 : zs_sI S2 1033 p0 ((zs_I S 1033 p0) + ((2 : Int32) + v3)) = S6
  have h := h S6 e7.symm
  have K8 : ∀ b, zs_K S6 b = zs_K S2 b := zs_Kt e7 (zs_KsI _ _ _ _) (fun _ => rfl)
  refine zu_iload_n d_1006_48 rfl ?_
  refine zu_bipush d_1006_49 zj_15 ?_
  refine zu_cmpgt (t := 65) d_1006_51 rfl (fun c9 => ?_) (fun c9 => ?_)
  · have h := h.1 c9
    exact (u_X2_one_65 hB h).weak ⟨rfl, rfl, rfl, rfl, rfl, trivial⟩
  · have h := h.2 c9
    exact (u_X2_one_54 hB h).weak ⟨rfl, rfl, rfl, rfl, trivial⟩
def w_X2_one (X : zs_X) (d : Nat) (p0 : Nat) (S : zs_T) (Q : zs_Q) : Prop :=
  (zs_K S p0 = some (.inl 1) ∧ ∃ b2, (zs_R S 1000 p0) = some b2 ∧ zs_K S b2 = some (.inl 3) ∧ ∃ b5, (zs_R S 3000 b2) = some b5 ∧ zs_A S b5 0 (zs_I S 1033 p0) ∧ zs_A S b5 0 ((zs_I S 1033 p0) + (1 : Int32)) ∧ w_X2_one_24 X d p0 (zs_R S 3000 b2) (zs_i S b5 (zs_I S 1033 p0).toNatClampNeg) (zs_i S b5 ((zs_I S 1033 p0) + (1 : Int32)).toNatClampNeg) S Q)
theorem u_X2_one {σ : Nat → Nat} {n0 : Nat} {bf : ab_B} {d : Nat} {p0 : Nat} {S : zs_T} {Q : zs_Q} (hB : zt_B bf) (hd : 1 ≤ d) (h : w_X2_one (zx σ n0 bf) (d - 1) p0 S Q) : zs_C (zx σ n0 bf) d 1006 [.ref p0] S Q := by
  have hL : lv_args 0 [.ref p0] = [(0, .ref p0)] := rfl
  refine zs_C.of1 (hB.2 1006 (by decide) (by decide)) hd (by rw [hL]; exact zs_sub_self _ (by exact ⟨rfl, trivial⟩)) ?_
  rw [hL]
  clear hL
  unfold w_X2_one at h
  refine zu_aload_n d_1006_0 rfl (zs_ra _) ?_
  obtain ⟨k1, h⟩ := h
  refine zg_1_107 rfl d_1006_1 k1 ?_
  obtain ⟨b2, e3, h⟩ := h
  refine zs_stk0 (zs_rfe e3) ?_
  obtain ⟨k4, h⟩ := h
  refine zg_1_201 rfl d_1006_4 k4 ?_
  refine zu_astore_n d_1006_7 (zs_rr _) (zs_lt zq_1006 rfl) ?_
  refine zu_aload_n d_1006_8 rfl (zs_rr _) ?_
  refine zu_aload_n d_1006_9 rfl (zs_ra _) ?_
  refine zg_1_175 rfl d_1006_10 k1 ?_
  obtain ⟨b5, e6, h⟩ := h
  refine zs_stk1 (zs_rfe e6) ?_
  obtain ⟨k7, h⟩ := h
  refine zu_iald (k := 0) d_1006_13 rfl rfl k7 ?_
  refine zu_istore_n d_1006_14 (zs_lt zq_1006 rfl) ?_
  refine zs_U.weak (L1 := [(2, .int (zs_i S b5 (zs_I S 1033 p0).toNatClampNeg)), (0, .ref p0), (1, va_rf (zs_R S 3000 b2))]) ?_ ⟨rfl, zs_gp1 rfl (Or.inl rfl) rfl, zs_gp1 rfl (Or.inl (zs_cat _)) rfl, trivial⟩
  refine zu_aload_n d_1006_15 rfl (zs_rr _) ?_
  refine zu_aload_n d_1006_16 rfl (zs_ra _) ?_
  refine zg_1_175 rfl d_1006_17 k1 ?_
  refine zu_iconst d_1006_20 zi_1 ?_
  refine zu_stk d_1006_21 rfl rfl ?_
  refine zs_stk1 (zs_rfe e6) ?_
  obtain ⟨k8, h⟩ := h
  refine zu_iald (k := 0) d_1006_22 rfl rfl k8 ?_
  refine zu_istore_n d_1006_23 (zs_lt zq_1006 rfl) ?_
  exact (u_X2_one_24 hB h).weak ⟨rfl, rfl, rfl, rfl, trivial⟩
/-! SchemaPascal$Machine.operands(II)I -/
theorem zm_1007 {σ : Nat → Nat} {n0 : Nat} {bf : ab_B} : ab_code (zx σ n0 bf).1 1007 = prog_5_method_8_code := rfl
theorem zq_1007 {σ : Nat → Nat} {n0 : Nat} {bf : ab_B} : ab_maxL (zx σ n0 bf).1 1007 = 3 := rfl
theorem zr_1007 {σ : Nat → Nat} {n0 : Nat} {bf : ab_B} : ab_ret (zx σ n0 bf).1 1007 = (Option.some Jvm.ClassFile.FieldType.int) := rfl
theorem d_1007_0 {σ : Nat → Nat} {n0 : Nat} {bf : ab_B} : decode (ab_code (zx σ n0 bf).1 1007) 0 = .ok (.iload_n 1, 1) := zd zm_1007 (by decide +kernel)
theorem d_1007_1 {σ : Nat → Nat} {n0 : Nat} {bf : ab_B} : decode (ab_code (zx σ n0 bf).1 1007) 1 = .ok (.tableswitch 261 1 56 #[239, 241, 241, 239, 241, 239, 239, 239, 239, 239, 239, 239, 241, 239, 239, 261, 261, 261, 261, 261, 261, 261, 261, 261, 239, 239, 239, 261, 261, 261, 261, 261, 261, 261, 261, 241, 239, 239, 245, 245, 247, 261, 241, 261, 261, 261, 261, 239, 261, 239, 239, 261, 261, 241, 261, 243], 239) := zd zm_1007 (by decide +kernel)
theorem d_1007_240 {σ : Nat → Nat} {n0 : Nat} {bf : ab_B} : decode (ab_code (zx σ n0 bf).1 1007) 240 = .ok (.iconst 1, 1) := zd zm_1007 (by decide +kernel)
theorem d_1007_241 {σ : Nat → Nat} {n0 : Nat} {bf : ab_B} : decode (ab_code (zx σ n0 bf).1 1007) 241 = .ok (.ireturn, 1) := zd zm_1007 (by decide +kernel)
theorem d_1007_242 {σ : Nat → Nat} {n0 : Nat} {bf : ab_B} : decode (ab_code (zx σ n0 bf).1 1007) 242 = .ok (.iconst 2, 1) := zd zm_1007 (by decide +kernel)
theorem d_1007_243 {σ : Nat → Nat} {n0 : Nat} {bf : ab_B} : decode (ab_code (zx σ n0 bf).1 1007) 243 = .ok (.ireturn, 1) := zd zm_1007 (by decide +kernel)
theorem d_1007_244 {σ : Nat → Nat} {n0 : Nat} {bf : ab_B} : decode (ab_code (zx σ n0 bf).1 1007) 244 = .ok (.iconst 3, 1) := zd zm_1007 (by decide +kernel)
theorem d_1007_245 {σ : Nat → Nat} {n0 : Nat} {bf : ab_B} : decode (ab_code (zx σ n0 bf).1 1007) 245 = .ok (.ireturn, 1) := zd zm_1007 (by decide +kernel)
theorem d_1007_246 {σ : Nat → Nat} {n0 : Nat} {bf : ab_B} : decode (ab_code (zx σ n0 bf).1 1007) 246 = .ok (.iconst 4, 1) := zd zm_1007 (by decide +kernel)
theorem d_1007_247 {σ : Nat → Nat} {n0 : Nat} {bf : ab_B} : decode (ab_code (zx σ n0 bf).1 1007) 247 = .ok (.ireturn, 1) := zd zm_1007 (by decide +kernel)
theorem d_1007_248 {σ : Nat → Nat} {n0 : Nat} {bf : ab_B} : decode (ab_code (zx σ n0 bf).1 1007) 248 = .ok (.iconst 2, 1) := zd zm_1007 (by decide +kernel)
theorem d_1007_249 {σ : Nat → Nat} {n0 : Nat} {bf : ab_B} : decode (ab_code (zx σ n0 bf).1 1007) 249 = .ok (.aload_n 0, 1) := zd zm_1007 (by decide +kernel)
theorem d_1007_250 {σ : Nat → Nat} {n0 : Nat} {bf : ab_B} : decode (ab_code (zx σ n0 bf).1 1007) 250 = .ok (.getfield 107, 3) := zd zm_1007 (by decide +kernel)
theorem d_1007_253 {σ : Nat → Nat} {n0 : Nat} {bf : ab_B} : decode (ab_code (zx σ n0 bf).1 1007) 253 = .ok (.getfield 201, 3) := zd zm_1007 (by decide +kernel)
theorem d_1007_256 {σ : Nat → Nat} {n0 : Nat} {bf : ab_B} : decode (ab_code (zx σ n0 bf).1 1007) 256 = .ok (.iload_n 2, 1) := zd zm_1007 (by decide +kernel)
theorem d_1007_257 {σ : Nat → Nat} {n0 : Nat} {bf : ab_B} : decode (ab_code (zx σ n0 bf).1 1007) 257 = .ok (.iconst 2, 1) := zd zm_1007 (by decide +kernel)
theorem d_1007_258 {σ : Nat → Nat} {n0 : Nat} {bf : ab_B} : decode (ab_code (zx σ n0 bf).1 1007) 258 = .ok (.iadd, 1) := zd zm_1007 (by decide +kernel)
theorem d_1007_259 {σ : Nat → Nat} {n0 : Nat} {bf : ab_B} : decode (ab_code (zx σ n0 bf).1 1007) 259 = .ok (.iaload, 1) := zd zm_1007 (by decide +kernel)
theorem d_1007_260 {σ : Nat → Nat} {n0 : Nat} {bf : ab_B} : decode (ab_code (zx σ n0 bf).1 1007) 260 = .ok (.iadd, 1) := zd zm_1007 (by decide +kernel)
theorem d_1007_261 {σ : Nat → Nat} {n0 : Nat} {bf : ab_B} : decode (ab_code (zx σ n0 bf).1 1007) 261 = .ok (.ireturn, 1) := zd zm_1007 (by decide +kernel)
theorem d_1007_262 {σ : Nat → Nat} {n0 : Nat} {bf : ab_B} : decode (ab_code (zx σ n0 bf).1 1007) 262 = .ok (.iconst 0, 1) := zd zm_1007 (by decide +kernel)
theorem d_1007_263 {σ : Nat → Nat} {n0 : Nat} {bf : ab_B} : decode (ab_code (zx σ n0 bf).1 1007) 263 = .ok (.ireturn, 1) := zd zm_1007 (by decide +kernel)
def w_X2_operands (X : zs_X) (d : Nat) (p0 : Nat) (p1 : Int32) (p2 : Int32) (S : zs_T) (Q : zs_Q) : Prop :=
  (((p1.toInt < 1 ∨ 56 < p1.toInt → (Q (.returned (some (.int (0 : Int32)))) S)) ∧ (p1.toInt = 1 → (Q (.returned (some (.int (1 : Int32)))) S)) ∧ (p1.toInt = 2 → (Q (.returned (some (.int (2 : Int32)))) S)) ∧ (p1.toInt = 3 → (Q (.returned (some (.int (2 : Int32)))) S)) ∧ (p1.toInt = 4 → (Q (.returned (some (.int (1 : Int32)))) S)) ∧ (p1.toInt = 5 → (Q (.returned (some (.int (2 : Int32)))) S)) ∧ (p1.toInt = 6 → (Q (.returned (some (.int (1 : Int32)))) S)) ∧ (p1.toInt = 7 → (Q (.returned (some (.int (1 : Int32)))) S)) ∧ (p1.toInt = 8 → (Q (.returned (some (.int (1 : Int32)))) S)) ∧ (p1.toInt = 9 → (Q (.returned (some (.int (1 : Int32)))) S)) ∧ (p1.toInt = 10 → (Q (.returned (some (.int (1 : Int32)))) S)) ∧ (p1.toInt = 11 → (Q (.returned (some (.int (1 : Int32)))) S)) ∧ (p1.toInt = 12 → (Q (.returned (some (.int (1 : Int32)))) S)) ∧ (p1.toInt = 13 → (Q (.returned (some (.int (2 : Int32)))) S)) ∧ (p1.toInt = 14 → (Q (.returned (some (.int (1 : Int32)))) S)) ∧ (p1.toInt = 15 → (Q (.returned (some (.int (1 : Int32)))) S)) ∧ (p1.toInt = 16 → (Q (.returned (some (.int (0 : Int32)))) S)) ∧ (p1.toInt = 17 → (Q (.returned (some (.int (0 : Int32)))) S)) ∧ (p1.toInt = 18 → (Q (.returned (some (.int (0 : Int32)))) S)) ∧ (p1.toInt = 19 → (Q (.returned (some (.int (0 : Int32)))) S)) ∧ (p1.toInt = 20 → (Q (.returned (some (.int (0 : Int32)))) S)) ∧ (p1.toInt = 21 → (Q (.returned (some (.int (0 : Int32)))) S)) ∧ (p1.toInt = 22 → (Q (.returned (some (.int (0 : Int32)))) S)) ∧ (p1.toInt = 23 → (Q (.returned (some (.int (0 : Int32)))) S)) ∧ (p1.toInt = 24 → (Q (.returned (some (.int (0 : Int32)))) S)) ∧ (p1.toInt = 25 → (Q (.returned (some (.int (1 : Int32)))) S)) ∧ (p1.toInt = 26 → (Q (.returned (some (.int (1 : Int32)))) S)) ∧ (p1.toInt = 27 → (Q (.returned (some (.int (1 : Int32)))) S)) ∧ (p1.toInt = 28 → (Q (.returned (some (.int (0 : Int32)))) S)) ∧ (p1.toInt = 29 → (Q (.returned (some (.int (0 : Int32)))) S)) ∧ (p1.toInt = 30 → (Q (.returned (some (.int (0 : Int32)))) S)) ∧ (p1.toInt = 31 → (Q (.returned (some (.int (0 : Int32)))) S)) ∧ (p1.toInt = 32 → (Q (.returned (some (.int (0 : Int32)))) S)) ∧ (p1.toInt = 33 → (Q (.returned (some (.int (0 : Int32)))) S)) ∧ (p1.toInt = 34 → (Q (.returned (some (.int (0 : Int32)))) S)) ∧ (p1.toInt = 35 → (Q (.returned (some (.int (0 : Int32)))) S)) ∧ (p1.toInt = 36 → (Q (.returned (some (.int (2 : Int32)))) S)) ∧ (p1.toInt = 37 → (Q (.returned (some (.int (1 : Int32)))) S)) ∧ (p1.toInt = 38 → (Q (.returned (some (.int (1 : Int32)))) S)) ∧ (p1.toInt = 39 → (Q (.returned (some (.int (4 : Int32)))) S)) ∧ (p1.toInt = 40 → (Q (.returned (some (.int (4 : Int32)))) S)) ∧ (p1.toInt = 41 → (zs_K S p0 = some (.inl 1) ∧ ∃ b3, (zs_R S 1000 p0) = some b3 ∧ zs_K S b3 = some (.inl 3) ∧ ∃ b6, (zs_R S 3000 b3) = some b6 ∧ zs_A S b6 0 (p2 + (2 : Int32)) ∧ Q (.returned (some (.int ((2 : Int32) + (zs_i S b6 (p2 + (2 : Int32)).toNatClampNeg))))) S)) ∧ (p1.toInt = 42 → (Q (.returned (some (.int (0 : Int32)))) S)) ∧ (p1.toInt = 43 → (Q (.returned (some (.int (2 : Int32)))) S)) ∧ (p1.toInt = 44 → (Q (.returned (some (.int (0 : Int32)))) S)) ∧ (p1.toInt = 45 → (Q (.returned (some (.int (0 : Int32)))) S)) ∧ (p1.toInt = 46 → (Q (.returned (some (.int (0 : Int32)))) S)) ∧ (p1.toInt = 47 → (Q (.returned (some (.int (0 : Int32)))) S)) ∧ (p1.toInt = 48 → (Q (.returned (some (.int (1 : Int32)))) S)) ∧ (p1.toInt = 49 → (Q (.returned (some (.int (0 : Int32)))) S)) ∧ (p1.toInt = 50 → (Q (.returned (some (.int (1 : Int32)))) S)) ∧ (p1.toInt = 51 → (Q (.returned (some (.int (1 : Int32)))) S)) ∧ (p1.toInt = 52 → (Q (.returned (some (.int (0 : Int32)))) S)) ∧ (p1.toInt = 53 → (Q (.returned (some (.int (0 : Int32)))) S)) ∧ (p1.toInt = 54 → (Q (.returned (some (.int (2 : Int32)))) S)) ∧ (p1.toInt = 55 → (Q (.returned (some (.int (0 : Int32)))) S)) ∧ (p1.toInt = 56 → (Q (.returned (some (.int (3 : Int32)))) S))))
theorem u_X2_operands {σ : Nat → Nat} {n0 : Nat} {bf : ab_B} {d : Nat} {p0 : Nat} {p1 : Int32} {p2 : Int32} {S : zs_T} {Q : zs_Q} (hB : zt_B bf) (hd : 1 ≤ d) (h : w_X2_operands (zx σ n0 bf) (d - 1) p0 p1 p2 S Q) : zs_C (zx σ n0 bf) d 1007 [.ref p0, .int p1, .int p2] S Q := by
  have hL : lv_args 0 [.ref p0, .int p1, .int p2] = [(0, .ref p0), (1, .int p1), (2, .int p2)] := rfl
  refine zs_C.of1 (hB.2 1007 (by decide) (by decide)) hd (by rw [hL]; exact zs_sub_self _ (by exact ⟨rfl, rfl, rfl, trivial⟩)) ?_
  rw [hL]
  clear hL
  unfold w_X2_operands at h
  refine zu_iload_n d_1007_0 rfl ?_
  refine zu_tsw (td := 262) d_1007_1 (by decide) rfl (fun c1 => ?_) ⟨fun c1 => ⟨by decide, ?_⟩, fun c1 => ⟨by decide, ?_⟩, fun c1 => ⟨by decide, ?_⟩, fun c1 => ⟨by decide, ?_⟩, fun c1 => ⟨by decide, ?_⟩, fun c1 => ⟨by decide, ?_⟩, fun c1 => ⟨by decide, ?_⟩, fun c1 => ⟨by decide, ?_⟩, fun c1 => ⟨by decide, ?_⟩, fun c1 => ⟨by decide, ?_⟩, fun c1 => ⟨by decide, ?_⟩, fun c1 => ⟨by decide, ?_⟩, fun c1 => ⟨by decide, ?_⟩, fun c1 => ⟨by decide, ?_⟩, fun c1 => ⟨by decide, ?_⟩, fun c1 => ⟨by decide, ?_⟩, fun c1 => ⟨by decide, ?_⟩, fun c1 => ⟨by decide, ?_⟩, fun c1 => ⟨by decide, ?_⟩, fun c1 => ⟨by decide, ?_⟩, fun c1 => ⟨by decide, ?_⟩, fun c1 => ⟨by decide, ?_⟩, fun c1 => ⟨by decide, ?_⟩, fun c1 => ⟨by decide, ?_⟩, fun c1 => ⟨by decide, ?_⟩, fun c1 => ⟨by decide, ?_⟩, fun c1 => ⟨by decide, ?_⟩, fun c1 => ⟨by decide, ?_⟩, fun c1 => ⟨by decide, ?_⟩, fun c1 => ⟨by decide, ?_⟩, fun c1 => ⟨by decide, ?_⟩, fun c1 => ⟨by decide, ?_⟩, fun c1 => ⟨by decide, ?_⟩, fun c1 => ⟨by decide, ?_⟩, fun c1 => ⟨by decide, ?_⟩, fun c1 => ⟨by decide, ?_⟩, fun c1 => ⟨by decide, ?_⟩, fun c1 => ⟨by decide, ?_⟩, fun c1 => ⟨by decide, ?_⟩, fun c1 => ⟨by decide, ?_⟩, fun c1 => ⟨by decide, ?_⟩, fun c1 => ⟨by decide, ?_⟩, fun c1 => ⟨by decide, ?_⟩, fun c1 => ⟨by decide, ?_⟩, fun c1 => ⟨by decide, ?_⟩, fun c1 => ⟨by decide, ?_⟩, fun c1 => ⟨by decide, ?_⟩, fun c1 => ⟨by decide, ?_⟩, fun c1 => ⟨by decide, ?_⟩, fun c1 => ⟨by decide, ?_⟩, fun c1 => ⟨by decide, ?_⟩, fun c1 => ⟨by decide, ?_⟩, fun c1 => ⟨by decide, ?_⟩, fun c1 => ⟨by decide, ?_⟩, fun c1 => ⟨by decide, ?_⟩, fun c1 => ⟨by decide, ?_⟩, trivial⟩
  · have h := h.1 c1
    refine zu_iconst d_1007_262 zi_0 ?_
    exact zu_iret d_1007_263 zr_1007 rfl h
  · have h := h.2.1 c1
    show zs_U _ _ _ 240 _ _ _ _
    refine zu_iconst d_1007_240 zi_1 ?_
    exact zu_iret d_1007_241 zr_1007 rfl h
  · have h := h.2.2.1 c1
    show zs_U _ _ _ 242 _ _ _ _
    refine zu_iconst d_1007_242 zi_2 ?_
    exact zu_iret d_1007_243 zr_1007 rfl h
  · have h := h.2.2.2.1 c1
    show zs_U _ _ _ 242 _ _ _ _
    refine zu_iconst d_1007_242 zi_2 ?_
    exact zu_iret d_1007_243 zr_1007 rfl h
  · have h := h.2.2.2.2.1 c1
    show zs_U _ _ _ 240 _ _ _ _
    refine zu_iconst d_1007_240 zi_1 ?_
    exact zu_iret d_1007_241 zr_1007 rfl h
  · have h := h.2.2.2.2.2.1 c1
    show zs_U _ _ _ 242 _ _ _ _
    refine zu_iconst d_1007_242 zi_2 ?_
    exact zu_iret d_1007_243 zr_1007 rfl h
  · have h := h.2.2.2.2.2.2.1 c1
    show zs_U _ _ _ 240 _ _ _ _
    refine zu_iconst d_1007_240 zi_1 ?_
    exact zu_iret d_1007_241 zr_1007 rfl h
  · have h := h.2.2.2.2.2.2.2.1 c1
    show zs_U _ _ _ 240 _ _ _ _
    refine zu_iconst d_1007_240 zi_1 ?_
    exact zu_iret d_1007_241 zr_1007 rfl h
  · have h := h.2.2.2.2.2.2.2.2.1 c1
    show zs_U _ _ _ 240 _ _ _ _
    refine zu_iconst d_1007_240 zi_1 ?_
    exact zu_iret d_1007_241 zr_1007 rfl h
  · have h := h.2.2.2.2.2.2.2.2.2.1 c1
    show zs_U _ _ _ 240 _ _ _ _
    refine zu_iconst d_1007_240 zi_1 ?_
    exact zu_iret d_1007_241 zr_1007 rfl h
  · have h := h.2.2.2.2.2.2.2.2.2.2.1 c1
    show zs_U _ _ _ 240 _ _ _ _
    refine zu_iconst d_1007_240 zi_1 ?_
    exact zu_iret d_1007_241 zr_1007 rfl h
  · have h := h.2.2.2.2.2.2.2.2.2.2.2.1 c1
    show zs_U _ _ _ 240 _ _ _ _
    refine zu_iconst d_1007_240 zi_1 ?_
    exact zu_iret d_1007_241 zr_1007 rfl h
  · have h := h.2.2.2.2.2.2.2.2.2.2.2.2.1 c1
    show zs_U _ _ _ 240 _ _ _ _
    refine zu_iconst d_1007_240 zi_1 ?_
    exact zu_iret d_1007_241 zr_1007 rfl h
  · have h := h.2.2.2.2.2.2.2.2.2.2.2.2.2.1 c1
    show zs_U _ _ _ 242 _ _ _ _
    refine zu_iconst d_1007_242 zi_2 ?_
    exact zu_iret d_1007_243 zr_1007 rfl h
  · have h := h.2.2.2.2.2.2.2.2.2.2.2.2.2.2.1 c1
    show zs_U _ _ _ 240 _ _ _ _
    refine zu_iconst d_1007_240 zi_1 ?_
    exact zu_iret d_1007_241 zr_1007 rfl h
  · have h := h.2.2.2.2.2.2.2.2.2.2.2.2.2.2.2.1 c1
    show zs_U _ _ _ 240 _ _ _ _
    refine zu_iconst d_1007_240 zi_1 ?_
    exact zu_iret d_1007_241 zr_1007 rfl h
  · have h := h.2.2.2.2.2.2.2.2.2.2.2.2.2.2.2.2.1 c1
    show zs_U _ _ _ 262 _ _ _ _
    refine zu_iconst d_1007_262 zi_0 ?_
    exact zu_iret d_1007_263 zr_1007 rfl h
  · have h := h.2.2.2.2.2.2.2.2.2.2.2.2.2.2.2.2.2.1 c1
    show zs_U _ _ _ 262 _ _ _ _
    refine zu_iconst d_1007_262 zi_0 ?_
    exact zu_iret d_1007_263 zr_1007 rfl h
  · have h := h.2.2.2.2.2.2.2.2.2.2.2.2.2.2.2.2.2.2.1 c1
    show zs_U _ _ _ 262 _ _ _ _
    refine zu_iconst d_1007_262 zi_0 ?_
    exact zu_iret d_1007_263 zr_1007 rfl h
  · have h := h.2.2.2.2.2.2.2.2.2.2.2.2.2.2.2.2.2.2.2.1 c1
    show zs_U _ _ _ 262 _ _ _ _
    refine zu_iconst d_1007_262 zi_0 ?_
    exact zu_iret d_1007_263 zr_1007 rfl h
  · have h := h.2.2.2.2.2.2.2.2.2.2.2.2.2.2.2.2.2.2.2.2.1 c1
    show zs_U _ _ _ 262 _ _ _ _
    refine zu_iconst d_1007_262 zi_0 ?_
    exact zu_iret d_1007_263 zr_1007 rfl h
  · have h := h.2.2.2.2.2.2.2.2.2.2.2.2.2.2.2.2.2.2.2.2.2.1 c1
    show zs_U _ _ _ 262 _ _ _ _
    refine zu_iconst d_1007_262 zi_0 ?_
    exact zu_iret d_1007_263 zr_1007 rfl h
  · have h := h.2.2.2.2.2.2.2.2.2.2.2.2.2.2.2.2.2.2.2.2.2.2.1 c1
    show zs_U _ _ _ 262 _ _ _ _
    refine zu_iconst d_1007_262 zi_0 ?_
    exact zu_iret d_1007_263 zr_1007 rfl h
  · have h := h.2.2.2.2.2.2.2.2.2.2.2.2.2.2.2.2.2.2.2.2.2.2.2.1 c1
    show zs_U _ _ _ 262 _ _ _ _
    refine zu_iconst d_1007_262 zi_0 ?_
    exact zu_iret d_1007_263 zr_1007 rfl h
  · have h := h.2.2.2.2.2.2.2.2.2.2.2.2.2.2.2.2.2.2.2.2.2.2.2.2.1 c1
    show zs_U _ _ _ 262 _ _ _ _
    refine zu_iconst d_1007_262 zi_0 ?_
    exact zu_iret d_1007_263 zr_1007 rfl h
  · have h := h.2.2.2.2.2.2.2.2.2.2.2.2.2.2.2.2.2.2.2.2.2.2.2.2.2.1 c1
    show zs_U _ _ _ 240 _ _ _ _
    refine zu_iconst d_1007_240 zi_1 ?_
    exact zu_iret d_1007_241 zr_1007 rfl h
  · have h := h.2.2.2.2.2.2.2.2.2.2.2.2.2.2.2.2.2.2.2.2.2.2.2.2.2.2.1 c1
    show zs_U _ _ _ 240 _ _ _ _
    refine zu_iconst d_1007_240 zi_1 ?_
    exact zu_iret d_1007_241 zr_1007 rfl h
  · have h := h.2.2.2.2.2.2.2.2.2.2.2.2.2.2.2.2.2.2.2.2.2.2.2.2.2.2.2.1 c1
    show zs_U _ _ _ 240 _ _ _ _
    refine zu_iconst d_1007_240 zi_1 ?_
    exact zu_iret d_1007_241 zr_1007 rfl h
  · have h := h.2.2.2.2.2.2.2.2.2.2.2.2.2.2.2.2.2.2.2.2.2.2.2.2.2.2.2.2.1 c1
    show zs_U _ _ _ 262 _ _ _ _
    refine zu_iconst d_1007_262 zi_0 ?_
    exact zu_iret d_1007_263 zr_1007 rfl h
  · have h := h.2.2.2.2.2.2.2.2.2.2.2.2.2.2.2.2.2.2.2.2.2.2.2.2.2.2.2.2.2.1 c1
    show zs_U _ _ _ 262 _ _ _ _
    refine zu_iconst d_1007_262 zi_0 ?_
    exact zu_iret d_1007_263 zr_1007 rfl h
  · have h := h.2.2.2.2.2.2.2.2.2.2.2.2.2.2.2.2.2.2.2.2.2.2.2.2.2.2.2.2.2.2.1 c1
    show zs_U _ _ _ 262 _ _ _ _
    refine zu_iconst d_1007_262 zi_0 ?_
    exact zu_iret d_1007_263 zr_1007 rfl h
  · have h := h.2.2.2.2.2.2.2.2.2.2.2.2.2.2.2.2.2.2.2.2.2.2.2.2.2.2.2.2.2.2.2.1 c1
    show zs_U _ _ _ 262 _ _ _ _
    refine zu_iconst d_1007_262 zi_0 ?_
    exact zu_iret d_1007_263 zr_1007 rfl h
  · have h := h.2.2.2.2.2.2.2.2.2.2.2.2.2.2.2.2.2.2.2.2.2.2.2.2.2.2.2.2.2.2.2.2.1 c1
    show zs_U _ _ _ 262 _ _ _ _
    refine zu_iconst d_1007_262 zi_0 ?_
    exact zu_iret d_1007_263 zr_1007 rfl h
  · have h := h.2.2.2.2.2.2.2.2.2.2.2.2.2.2.2.2.2.2.2.2.2.2.2.2.2.2.2.2.2.2.2.2.2.1 c1
    show zs_U _ _ _ 262 _ _ _ _
    refine zu_iconst d_1007_262 zi_0 ?_
    exact zu_iret d_1007_263 zr_1007 rfl h
  · have h := h.2.2.2.2.2.2.2.2.2.2.2.2.2.2.2.2.2.2.2.2.2.2.2.2.2.2.2.2.2.2.2.2.2.2.1 c1
    show zs_U _ _ _ 262 _ _ _ _
    refine zu_iconst d_1007_262 zi_0 ?_
    exact zu_iret d_1007_263 zr_1007 rfl h
  · have h := h.2.2.2.2.2.2.2.2.2.2.2.2.2.2.2.2.2.2.2.2.2.2.2.2.2.2.2.2.2.2.2.2.2.2.2.1 c1
    show zs_U _ _ _ 262 _ _ _ _
    refine zu_iconst d_1007_262 zi_0 ?_
    exact zu_iret d_1007_263 zr_1007 rfl h
  · have h := h.2.2.2.2.2.2.2.2.2.2.2.2.2.2.2.2.2.2.2.2.2.2.2.2.2.2.2.2.2.2.2.2.2.2.2.2.1 c1
    show zs_U _ _ _ 242 _ _ _ _
    refine zu_iconst d_1007_242 zi_2 ?_
    exact zu_iret d_1007_243 zr_1007 rfl h
  · have h := h.2.2.2.2.2.2.2.2.2.2.2.2.2.2.2.2.2.2.2.2.2.2.2.2.2.2.2.2.2.2.2.2.2.2.2.2.2.1 c1
    show zs_U _ _ _ 240 _ _ _ _
    refine zu_iconst d_1007_240 zi_1 ?_
    exact zu_iret d_1007_241 zr_1007 rfl h
  · have h := h.2.2.2.2.2.2.2.2.2.2.2.2.2.2.2.2.2.2.2.2.2.2.2.2.2.2.2.2.2.2.2.2.2.2.2.2.2.2.1 c1
    show zs_U _ _ _ 240 _ _ _ _
    refine zu_iconst d_1007_240 zi_1 ?_
    exact zu_iret d_1007_241 zr_1007 rfl h
  · have h := h.2.2.2.2.2.2.2.2.2.2.2.2.2.2.2.2.2.2.2.2.2.2.2.2.2.2.2.2.2.2.2.2.2.2.2.2.2.2.2.1 c1
    show zs_U _ _ _ 246 _ _ _ _
    refine zu_iconst d_1007_246 zi_4 ?_
    exact zu_iret d_1007_247 zr_1007 rfl h
  · have h := h.2.2.2.2.2.2.2.2.2.2.2.2.2.2.2.2.2.2.2.2.2.2.2.2.2.2.2.2.2.2.2.2.2.2.2.2.2.2.2.2.1 c1
    show zs_U _ _ _ 246 _ _ _ _
    refine zu_iconst d_1007_246 zi_4 ?_
    exact zu_iret d_1007_247 zr_1007 rfl h
  · have h := h.2.2.2.2.2.2.2.2.2.2.2.2.2.2.2.2.2.2.2.2.2.2.2.2.2.2.2.2.2.2.2.2.2.2.2.2.2.2.2.2.2.1 c1
    show zs_U _ _ _ 248 _ _ _ _
    refine zu_iconst d_1007_248 zi_2 ?_
    refine zu_aload_n d_1007_249 rfl (zs_ra _) ?_
    obtain ⟨k2, h⟩ := h
    refine zg_1_107 rfl d_1007_250 k2 ?_
    obtain ⟨b3, e4, h⟩ := h
    refine zs_stk0 (zs_rfe e4) ?_
    obtain ⟨k5, h⟩ := h
    refine zg_1_201 rfl d_1007_253 k5 ?_
    refine zu_iload_n d_1007_256 rfl ?_
    refine zu_iconst d_1007_257 zi_2 ?_
    refine zu_stk d_1007_258 rfl rfl ?_
    obtain ⟨b6, e7, h⟩ := h
    refine zs_stk1 (zs_rfe e7) ?_
    obtain ⟨k8, h⟩ := h
    refine zu_iald (k := 0) d_1007_259 rfl rfl k8 ?_
    refine zu_stk d_1007_260 rfl rfl ?_
    exact zu_iret d_1007_261 zr_1007 rfl h
  · have h := h.2.2.2.2.2.2.2.2.2.2.2.2.2.2.2.2.2.2.2.2.2.2.2.2.2.2.2.2.2.2.2.2.2.2.2.2.2.2.2.2.2.2.1 c1
    show zs_U _ _ _ 262 _ _ _ _
    refine zu_iconst d_1007_262 zi_0 ?_
    exact zu_iret d_1007_263 zr_1007 rfl h
  · have h := h.2.2.2.2.2.2.2.2.2.2.2.2.2.2.2.2.2.2.2.2.2.2.2.2.2.2.2.2.2.2.2.2.2.2.2.2.2.2.2.2.2.2.2.1 c1
    show zs_U _ _ _ 242 _ _ _ _
    refine zu_iconst d_1007_242 zi_2 ?_
    exact zu_iret d_1007_243 zr_1007 rfl h
  · have h := h.2.2.2.2.2.2.2.2.2.2.2.2.2.2.2.2.2.2.2.2.2.2.2.2.2.2.2.2.2.2.2.2.2.2.2.2.2.2.2.2.2.2.2.2.1 c1
    show zs_U _ _ _ 262 _ _ _ _
    refine zu_iconst d_1007_262 zi_0 ?_
    exact zu_iret d_1007_263 zr_1007 rfl h
  · have h := h.2.2.2.2.2.2.2.2.2.2.2.2.2.2.2.2.2.2.2.2.2.2.2.2.2.2.2.2.2.2.2.2.2.2.2.2.2.2.2.2.2.2.2.2.2.1 c1
    show zs_U _ _ _ 262 _ _ _ _
    refine zu_iconst d_1007_262 zi_0 ?_
    exact zu_iret d_1007_263 zr_1007 rfl h
  · have h := h.2.2.2.2.2.2.2.2.2.2.2.2.2.2.2.2.2.2.2.2.2.2.2.2.2.2.2.2.2.2.2.2.2.2.2.2.2.2.2.2.2.2.2.2.2.2.1 c1
    show zs_U _ _ _ 262 _ _ _ _
    refine zu_iconst d_1007_262 zi_0 ?_
    exact zu_iret d_1007_263 zr_1007 rfl h
  · have h := h.2.2.2.2.2.2.2.2.2.2.2.2.2.2.2.2.2.2.2.2.2.2.2.2.2.2.2.2.2.2.2.2.2.2.2.2.2.2.2.2.2.2.2.2.2.2.2.1 c1
    show zs_U _ _ _ 262 _ _ _ _
    refine zu_iconst d_1007_262 zi_0 ?_
    exact zu_iret d_1007_263 zr_1007 rfl h
  · have h := h.2.2.2.2.2.2.2.2.2.2.2.2.2.2.2.2.2.2.2.2.2.2.2.2.2.2.2.2.2.2.2.2.2.2.2.2.2.2.2.2.2.2.2.2.2.2.2.2.1 c1
    show zs_U _ _ _ 240 _ _ _ _
    refine zu_iconst d_1007_240 zi_1 ?_
    exact zu_iret d_1007_241 zr_1007 rfl h
  · have h := h.2.2.2.2.2.2.2.2.2.2.2.2.2.2.2.2.2.2.2.2.2.2.2.2.2.2.2.2.2.2.2.2.2.2.2.2.2.2.2.2.2.2.2.2.2.2.2.2.2.1 c1
    show zs_U _ _ _ 262 _ _ _ _
    refine zu_iconst d_1007_262 zi_0 ?_
    exact zu_iret d_1007_263 zr_1007 rfl h
  · have h := h.2.2.2.2.2.2.2.2.2.2.2.2.2.2.2.2.2.2.2.2.2.2.2.2.2.2.2.2.2.2.2.2.2.2.2.2.2.2.2.2.2.2.2.2.2.2.2.2.2.2.1 c1
    show zs_U _ _ _ 240 _ _ _ _
    refine zu_iconst d_1007_240 zi_1 ?_
    exact zu_iret d_1007_241 zr_1007 rfl h
  · have h := h.2.2.2.2.2.2.2.2.2.2.2.2.2.2.2.2.2.2.2.2.2.2.2.2.2.2.2.2.2.2.2.2.2.2.2.2.2.2.2.2.2.2.2.2.2.2.2.2.2.2.2.1 c1
    show zs_U _ _ _ 240 _ _ _ _
    refine zu_iconst d_1007_240 zi_1 ?_
    exact zu_iret d_1007_241 zr_1007 rfl h
  · have h := h.2.2.2.2.2.2.2.2.2.2.2.2.2.2.2.2.2.2.2.2.2.2.2.2.2.2.2.2.2.2.2.2.2.2.2.2.2.2.2.2.2.2.2.2.2.2.2.2.2.2.2.2.1 c1
    show zs_U _ _ _ 262 _ _ _ _
    refine zu_iconst d_1007_262 zi_0 ?_
    exact zu_iret d_1007_263 zr_1007 rfl h
  · have h := h.2.2.2.2.2.2.2.2.2.2.2.2.2.2.2.2.2.2.2.2.2.2.2.2.2.2.2.2.2.2.2.2.2.2.2.2.2.2.2.2.2.2.2.2.2.2.2.2.2.2.2.2.2.1 c1
    show zs_U _ _ _ 262 _ _ _ _
    refine zu_iconst d_1007_262 zi_0 ?_
    exact zu_iret d_1007_263 zr_1007 rfl h
  · have h := h.2.2.2.2.2.2.2.2.2.2.2.2.2.2.2.2.2.2.2.2.2.2.2.2.2.2.2.2.2.2.2.2.2.2.2.2.2.2.2.2.2.2.2.2.2.2.2.2.2.2.2.2.2.2.1 c1
    show zs_U _ _ _ 242 _ _ _ _
    refine zu_iconst d_1007_242 zi_2 ?_
    exact zu_iret d_1007_243 zr_1007 rfl h
  · have h := h.2.2.2.2.2.2.2.2.2.2.2.2.2.2.2.2.2.2.2.2.2.2.2.2.2.2.2.2.2.2.2.2.2.2.2.2.2.2.2.2.2.2.2.2.2.2.2.2.2.2.2.2.2.2.2.1 c1
    show zs_U _ _ _ 262 _ _ _ _
    refine zu_iconst d_1007_262 zi_0 ?_
    exact zu_iret d_1007_263 zr_1007 rfl h
  · have h := h.2.2.2.2.2.2.2.2.2.2.2.2.2.2.2.2.2.2.2.2.2.2.2.2.2.2.2.2.2.2.2.2.2.2.2.2.2.2.2.2.2.2.2.2.2.2.2.2.2.2.2.2.2.2.2.2 c1
    show zs_U _ _ _ 244 _ _ _ _
    refine zu_iconst d_1007_244 zi_3 ?_
    exact zu_iret d_1007_245 zr_1007 rfl h
/-! SchemaPascal$Machine.move(III)V -/
theorem zm_1008 {σ : Nat → Nat} {n0 : Nat} {bf : ab_B} : ab_code (zx σ n0 bf).1 1008 = prog_5_method_12_code := rfl
theorem zq_1008 {σ : Nat → Nat} {n0 : Nat} {bf : ab_B} : ab_maxL (zx σ n0 bf).1 1008 = 10 := rfl
theorem zr_1008 {σ : Nat → Nat} {n0 : Nat} {bf : ab_B} : ab_ret (zx σ n0 bf).1 1008 = (Option.none : Option Jvm.ClassFile.FieldType) := rfl
theorem d_1008_0 {σ : Nat → Nat} {n0 : Nat} {bf : ab_B} : decode (ab_code (zx σ n0 bf).1 1008) 0 = .ok (.aload_n 0, 1) := zd zm_1008 (by decide +kernel)
theorem d_1008_1 {σ : Nat → Nat} {n0 : Nat} {bf : ab_B} : decode (ab_code (zx σ n0 bf).1 1008) 1 = .ok (.getfield 107, 3) := zd zm_1008 (by decide +kernel)
theorem d_1008_4 {σ : Nat → Nat} {n0 : Nat} {bf : ab_B} : decode (ab_code (zx σ n0 bf).1 1008) 4 = .ok (.getfield 201, 3) := zd zm_1008 (by decide +kernel)
theorem d_1008_7 {σ : Nat → Nat} {n0 : Nat} {bf : ab_B} : decode (ab_code (zx σ n0 bf).1 1008) 7 = .ok (.astore 4, 2) := zd zm_1008 (by decide +kernel)
theorem d_1008_9 {σ : Nat → Nat} {n0 : Nat} {bf : ab_B} : decode (ab_code (zx σ n0 bf).1 1008) 9 = .ok (.iload_n 1, 1) := zd zm_1008 (by decide +kernel)
theorem d_1008_10 {σ : Nat → Nat} {n0 : Nat} {bf : ab_B} : decode (ab_code (zx σ n0 bf).1 1008) 10 = .ok (.tableswitch 809 0 14 #[74, 107, 121, 197, 258, 285, 338, 397, 424, 504, 560, 598, 666, 723, 782], 74) := zd zm_1008 (by decide +kernel)
theorem d_1008_84 {σ : Nat → Nat} {n0 : Nat} {bf : ab_B} : decode (ab_code (zx σ n0 bf).1 1008) 84 = .ok (.aload_n 0, 1) := zd zm_1008 (by decide +kernel)
theorem d_1008_85 {σ : Nat → Nat} {n0 : Nat} {bf : ab_B} : decode (ab_code (zx σ n0 bf).1 1008) 85 = .ok (.dup, 1) := zd zm_1008 (by decide +kernel)
theorem d_1008_86 {σ : Nat → Nat} {n0 : Nat} {bf : ab_B} : decode (ab_code (zx σ n0 bf).1 1008) 86 = .ok (.getfield 198, 3) := zd zm_1008 (by decide +kernel)
theorem d_1008_89 {σ : Nat → Nat} {n0 : Nat} {bf : ab_B} : decode (ab_code (zx σ n0 bf).1 1008) 89 = .ok (.iconst 1, 1) := zd zm_1008 (by decide +kernel)
theorem d_1008_90 {σ : Nat → Nat} {n0 : Nat} {bf : ab_B} : decode (ab_code (zx σ n0 bf).1 1008) 90 = .ok (.isub, 1) := zd zm_1008 (by decide +kernel)
theorem d_1008_91 {σ : Nat → Nat} {n0 : Nat} {bf : ab_B} : decode (ab_code (zx σ n0 bf).1 1008) 91 = .ok (.putfield 198, 3) := zd zm_1008 (by decide +kernel)
theorem d_1008_94 {σ : Nat → Nat} {n0 : Nat} {bf : ab_B} : decode (ab_code (zx σ n0 bf).1 1008) 94 = .ok (.aload_n 0, 1) := zd zm_1008 (by decide +kernel)
theorem d_1008_95 {σ : Nat → Nat} {n0 : Nat} {bf : ab_B} : decode (ab_code (zx σ n0 bf).1 1008) 95 = .ok (.dup, 1) := zd zm_1008 (by decide +kernel)
theorem d_1008_96 {σ : Nat → Nat} {n0 : Nat} {bf : ab_B} : decode (ab_code (zx σ n0 bf).1 1008) 96 = .ok (.getfield 141, 3) := zd zm_1008 (by decide +kernel)
theorem d_1008_99 {σ : Nat → Nat} {n0 : Nat} {bf : ab_B} : decode (ab_code (zx σ n0 bf).1 1008) 99 = .ok (.iconst 1, 1) := zd zm_1008 (by decide +kernel)
theorem d_1008_100 {σ : Nat → Nat} {n0 : Nat} {bf : ab_B} : decode (ab_code (zx σ n0 bf).1 1008) 100 = .ok (.iadd, 1) := zd zm_1008 (by decide +kernel)
theorem d_1008_101 {σ : Nat → Nat} {n0 : Nat} {bf : ab_B} : decode (ab_code (zx σ n0 bf).1 1008) 101 = .ok (.putfield 141, 3) := zd zm_1008 (by decide +kernel)
theorem d_1008_104 {σ : Nat → Nat} {n0 : Nat} {bf : ab_B} : decode (ab_code (zx σ n0 bf).1 1008) 104 = .ok (.aload_n 0, 1) := zd zm_1008 (by decide +kernel)
theorem d_1008_105 {σ : Nat → Nat} {n0 : Nat} {bf : ab_B} : decode (ab_code (zx σ n0 bf).1 1008) 105 = .ok (.getfield 79, 3) := zd zm_1008 (by decide +kernel)
theorem d_1008_108 {σ : Nat → Nat} {n0 : Nat} {bf : ab_B} : decode (ab_code (zx σ n0 bf).1 1008) 108 = .ok (.aload_n 0, 1) := zd zm_1008 (by decide +kernel)
theorem d_1008_109 {σ : Nat → Nat} {n0 : Nat} {bf : ab_B} : decode (ab_code (zx σ n0 bf).1 1008) 109 = .ok (.getfield 129, 3) := zd zm_1008 (by decide +kernel)
theorem d_1008_112 {σ : Nat → Nat} {n0 : Nat} {bf : ab_B} : decode (ab_code (zx σ n0 bf).1 1008) 112 = .ok (.iload_n 2, 1) := zd zm_1008 (by decide +kernel)
theorem d_1008_113 {σ : Nat → Nat} {n0 : Nat} {bf : ab_B} : decode (ab_code (zx σ n0 bf).1 1008) 113 = .ok (.iastore, 1) := zd zm_1008 (by decide +kernel)
theorem d_1008_114 {σ : Nat → Nat} {n0 : Nat} {bf : ab_B} : decode (ab_code (zx σ n0 bf).1 1008) 114 = .ok (.goto 754, 3) := zd zm_1008 (by decide +kernel)
theorem d_1008_117 {σ : Nat → Nat} {n0 : Nat} {bf : ab_B} : decode (ab_code (zx σ n0 bf).1 1008) 117 = .ok (.aload_n 0, 1) := zd zm_1008 (by decide +kernel)
theorem d_1008_118 {σ : Nat → Nat} {n0 : Nat} {bf : ab_B} : decode (ab_code (zx σ n0 bf).1 1008) 118 = .ok (.aload 4, 2) := zd zm_1008 (by decide +kernel)
theorem d_1008_120 {σ : Nat → Nat} {n0 : Nat} {bf : ab_B} : decode (ab_code (zx σ n0 bf).1 1008) 120 = .ok (.iload_n 3, 1) := zd zm_1008 (by decide +kernel)
theorem d_1008_121 {σ : Nat → Nat} {n0 : Nat} {bf : ab_B} : decode (ab_code (zx σ n0 bf).1 1008) 121 = .ok (.iconst 2, 1) := zd zm_1008 (by decide +kernel)
theorem d_1008_122 {σ : Nat → Nat} {n0 : Nat} {bf : ab_B} : decode (ab_code (zx σ n0 bf).1 1008) 122 = .ok (.iadd, 1) := zd zm_1008 (by decide +kernel)
theorem d_1008_123 {σ : Nat → Nat} {n0 : Nat} {bf : ab_B} : decode (ab_code (zx σ n0 bf).1 1008) 123 = .ok (.iaload, 1) := zd zm_1008 (by decide +kernel)
theorem d_1008_124 {σ : Nat → Nat} {n0 : Nat} {bf : ab_B} : decode (ab_code (zx σ n0 bf).1 1008) 124 = .ok (.i2l, 1) := zd zm_1008 (by decide +kernel)
theorem d_1008_125 {σ : Nat → Nat} {n0 : Nat} {bf : ab_B} : decode (ab_code (zx σ n0 bf).1 1008) 125 = .ok (.invokevirtual 223, 3) := zd zm_1008 (by decide +kernel)
theorem d_1008_128 {σ : Nat → Nat} {n0 : Nat} {bf : ab_B} : decode (ab_code (zx σ n0 bf).1 1008) 128 = .ok (.goto 740, 3) := zd zm_1008 (by decide +kernel)
theorem d_1008_131 {σ : Nat → Nat} {n0 : Nat} {bf : ab_B} : decode (ab_code (zx σ n0 bf).1 1008) 131 = .ok (.aload_n 0, 1) := zd zm_1008 (by decide +kernel)
theorem d_1008_132 {σ : Nat → Nat} {n0 : Nat} {bf : ab_B} : decode (ab_code (zx σ n0 bf).1 1008) 132 = .ok (.aload 4, 2) := zd zm_1008 (by decide +kernel)
theorem d_1008_134 {σ : Nat → Nat} {n0 : Nat} {bf : ab_B} : decode (ab_code (zx σ n0 bf).1 1008) 134 = .ok (.iload_n 3, 1) := zd zm_1008 (by decide +kernel)
theorem d_1008_135 {σ : Nat → Nat} {n0 : Nat} {bf : ab_B} : decode (ab_code (zx σ n0 bf).1 1008) 135 = .ok (.iconst 3, 1) := zd zm_1008 (by decide +kernel)
theorem d_1008_136 {σ : Nat → Nat} {n0 : Nat} {bf : ab_B} : decode (ab_code (zx σ n0 bf).1 1008) 136 = .ok (.iadd, 1) := zd zm_1008 (by decide +kernel)
theorem d_1008_137 {σ : Nat → Nat} {n0 : Nat} {bf : ab_B} : decode (ab_code (zx σ n0 bf).1 1008) 137 = .ok (.iaload, 1) := zd zm_1008 (by decide +kernel)
theorem d_1008_138 {σ : Nat → Nat} {n0 : Nat} {bf : ab_B} : decode (ab_code (zx σ n0 bf).1 1008) 138 = .ok (.aload 4, 2) := zd zm_1008 (by decide +kernel)
theorem d_1008_140 {σ : Nat → Nat} {n0 : Nat} {bf : ab_B} : decode (ab_code (zx σ n0 bf).1 1008) 140 = .ok (.iload_n 3, 1) := zd zm_1008 (by decide +kernel)
theorem d_1008_141 {σ : Nat → Nat} {n0 : Nat} {bf : ab_B} : decode (ab_code (zx σ n0 bf).1 1008) 141 = .ok (.iconst 2, 1) := zd zm_1008 (by decide +kernel)
theorem d_1008_142 {σ : Nat → Nat} {n0 : Nat} {bf : ab_B} : decode (ab_code (zx σ n0 bf).1 1008) 142 = .ok (.iadd, 1) := zd zm_1008 (by decide +kernel)
theorem d_1008_143 {σ : Nat → Nat} {n0 : Nat} {bf : ab_B} : decode (ab_code (zx σ n0 bf).1 1008) 143 = .ok (.iaload, 1) := zd zm_1008 (by decide +kernel)
theorem d_1008_144 {σ : Nat → Nat} {n0 : Nat} {bf : ab_B} : decode (ab_code (zx σ n0 bf).1 1008) 144 = .ok (.isub, 1) := zd zm_1008 (by decide +kernel)
theorem d_1008_145 {σ : Nat → Nat} {n0 : Nat} {bf : ab_B} : decode (ab_code (zx σ n0 bf).1 1008) 145 = .ok (.iload_n 2, 1) := zd zm_1008 (by decide +kernel)
theorem d_1008_146 {σ : Nat → Nat} {n0 : Nat} {bf : ab_B} : decode (ab_code (zx σ n0 bf).1 1008) 146 = .ok (.invokevirtual 227, 3) := zd zm_1008 (by decide +kernel)
theorem d_1008_149 {σ : Nat → Nat} {n0 : Nat} {bf : ab_B} : decode (ab_code (zx σ n0 bf).1 1008) 149 = .ok (.ifCond .ne 4, 3) := zd zm_1008 (by decide +kernel)
theorem d_1008_152 {σ : Nat → Nat} {n0 : Nat} {bf : ab_B} : decode (ab_code (zx σ n0 bf).1 1008) 152 = .ok (.return_, 1) := zd zm_1008 (by decide +kernel)
theorem d_1008_153 {σ : Nat → Nat} {n0 : Nat} {bf : ab_B} : decode (ab_code (zx σ n0 bf).1 1008) 153 = .ok (.aload 4, 2) := zd zm_1008 (by decide +kernel)
theorem d_1008_155 {σ : Nat → Nat} {n0 : Nat} {bf : ab_B} : decode (ab_code (zx σ n0 bf).1 1008) 155 = .ok (.iload_n 3, 1) := zd zm_1008 (by decide +kernel)
theorem d_1008_156 {σ : Nat → Nat} {n0 : Nat} {bf : ab_B} : decode (ab_code (zx σ n0 bf).1 1008) 156 = .ok (.iconst 2, 1) := zd zm_1008 (by decide +kernel)
theorem d_1008_157 {σ : Nat → Nat} {n0 : Nat} {bf : ab_B} : decode (ab_code (zx σ n0 bf).1 1008) 157 = .ok (.iadd, 1) := zd zm_1008 (by decide +kernel)
theorem d_1008_158 {σ : Nat → Nat} {n0 : Nat} {bf : ab_B} : decode (ab_code (zx σ n0 bf).1 1008) 158 = .ok (.iaload, 1) := zd zm_1008 (by decide +kernel)
theorem d_1008_159 {σ : Nat → Nat} {n0 : Nat} {bf : ab_B} : decode (ab_code (zx σ n0 bf).1 1008) 159 = .ok (.istore 5, 2) := zd zm_1008 (by decide +kernel)
theorem d_1008_161 {σ : Nat → Nat} {n0 : Nat} {bf : ab_B} : decode (ab_code (zx σ n0 bf).1 1008) 161 = .ok (.iload 5, 2) := zd zm_1008 (by decide +kernel)
theorem d_1008_163 {σ : Nat → Nat} {n0 : Nat} {bf : ab_B} : decode (ab_code (zx σ n0 bf).1 1008) 163 = .ok (.aload 4, 2) := zd zm_1008 (by decide +kernel)
theorem d_1008_165 {σ : Nat → Nat} {n0 : Nat} {bf : ab_B} : decode (ab_code (zx σ n0 bf).1 1008) 165 = .ok (.iload_n 3, 1) := zd zm_1008 (by decide +kernel)
theorem d_1008_166 {σ : Nat → Nat} {n0 : Nat} {bf : ab_B} : decode (ab_code (zx σ n0 bf).1 1008) 166 = .ok (.iconst 3, 1) := zd zm_1008 (by decide +kernel)
theorem d_1008_167 {σ : Nat → Nat} {n0 : Nat} {bf : ab_B} : decode (ab_code (zx σ n0 bf).1 1008) 167 = .ok (.iadd, 1) := zd zm_1008 (by decide +kernel)
theorem d_1008_168 {σ : Nat → Nat} {n0 : Nat} {bf : ab_B} : decode (ab_code (zx σ n0 bf).1 1008) 168 = .ok (.iaload, 1) := zd zm_1008 (by decide +kernel)
theorem d_1008_169 {σ : Nat → Nat} {n0 : Nat} {bf : ab_B} : decode (ab_code (zx σ n0 bf).1 1008) 169 = .ok (.if_icmp .ge 35, 3) := zd zm_1008 (by decide +kernel)
theorem d_1008_172 {σ : Nat → Nat} {n0 : Nat} {bf : ab_B} : decode (ab_code (zx σ n0 bf).1 1008) 172 = .ok (.aload_n 0, 1) := zd zm_1008 (by decide +kernel)
theorem d_1008_173 {σ : Nat → Nat} {n0 : Nat} {bf : ab_B} : decode (ab_code (zx σ n0 bf).1 1008) 173 = .ok (.getfield 42, 3) := zd zm_1008 (by decide +kernel)
theorem d_1008_176 {σ : Nat → Nat} {n0 : Nat} {bf : ab_B} : decode (ab_code (zx σ n0 bf).1 1008) 176 = .ok (.aload_n 0, 1) := zd zm_1008 (by decide +kernel)
theorem d_1008_177 {σ : Nat → Nat} {n0 : Nat} {bf : ab_B} : decode (ab_code (zx σ n0 bf).1 1008) 177 = .ok (.dup, 1) := zd zm_1008 (by decide +kernel)
theorem d_1008_178 {σ : Nat → Nat} {n0 : Nat} {bf : ab_B} : decode (ab_code (zx σ n0 bf).1 1008) 178 = .ok (.getfield 117, 3) := zd zm_1008 (by decide +kernel)
theorem d_1008_181 {σ : Nat → Nat} {n0 : Nat} {bf : ab_B} : decode (ab_code (zx σ n0 bf).1 1008) 181 = .ok (.dup_x1, 1) := zd zm_1008 (by decide +kernel)
theorem d_1008_182 {σ : Nat → Nat} {n0 : Nat} {bf : ab_B} : decode (ab_code (zx σ n0 bf).1 1008) 182 = .ok (.iconst 1, 1) := zd zm_1008 (by decide +kernel)
theorem d_1008_183 {σ : Nat → Nat} {n0 : Nat} {bf : ab_B} : decode (ab_code (zx σ n0 bf).1 1008) 183 = .ok (.iadd, 1) := zd zm_1008 (by decide +kernel)
theorem d_1008_184 {σ : Nat → Nat} {n0 : Nat} {bf : ab_B} : decode (ab_code (zx σ n0 bf).1 1008) 184 = .ok (.putfield 117, 3) := zd zm_1008 (by decide +kernel)
theorem d_1008_187 {σ : Nat → Nat} {n0 : Nat} {bf : ab_B} : decode (ab_code (zx σ n0 bf).1 1008) 187 = .ok (.aload_n 0, 1) := zd zm_1008 (by decide +kernel)
theorem d_1008_188 {σ : Nat → Nat} {n0 : Nat} {bf : ab_B} : decode (ab_code (zx σ n0 bf).1 1008) 188 = .ok (.getfield 107, 3) := zd zm_1008 (by decide +kernel)
theorem d_1008_191 {σ : Nat → Nat} {n0 : Nat} {bf : ab_B} : decode (ab_code (zx σ n0 bf).1 1008) 191 = .ok (.getfield 230, 3) := zd zm_1008 (by decide +kernel)
theorem d_1008_194 {σ : Nat → Nat} {n0 : Nat} {bf : ab_B} : decode (ab_code (zx σ n0 bf).1 1008) 194 = .ok (.iload 5, 2) := zd zm_1008 (by decide +kernel)
theorem d_1008_196 {σ : Nat → Nat} {n0 : Nat} {bf : ab_B} : decode (ab_code (zx σ n0 bf).1 1008) 196 = .ok (.baload, 1) := zd zm_1008 (by decide +kernel)
theorem d_1008_197 {σ : Nat → Nat} {n0 : Nat} {bf : ab_B} : decode (ab_code (zx σ n0 bf).1 1008) 197 = .ok (.bastore, 1) := zd zm_1008 (by decide +kernel)
theorem d_1008_198 {σ : Nat → Nat} {n0 : Nat} {bf : ab_B} : decode (ab_code (zx σ n0 bf).1 1008) 198 = .ok (.iinc 5 1, 3) := zd zm_1008 (by decide +kernel)
theorem d_1008_201 {σ : Nat → Nat} {n0 : Nat} {bf : ab_B} : decode (ab_code (zx σ n0 bf).1 1008) 201 = .ok (.goto (-40), 3) := zd zm_1008 (by decide +kernel)
theorem d_1008_204 {σ : Nat → Nat} {n0 : Nat} {bf : ab_B} : decode (ab_code (zx σ n0 bf).1 1008) 204 = .ok (.goto 664, 3) := zd zm_1008 (by decide +kernel)
theorem d_1008_207 {σ : Nat → Nat} {n0 : Nat} {bf : ab_B} : decode (ab_code (zx σ n0 bf).1 1008) 207 = .ok (.aload_n 0, 1) := zd zm_1008 (by decide +kernel)
theorem d_1008_208 {σ : Nat → Nat} {n0 : Nat} {bf : ab_B} : decode (ab_code (zx σ n0 bf).1 1008) 208 = .ok (.aload 4, 2) := zd zm_1008 (by decide +kernel)
theorem d_1008_210 {σ : Nat → Nat} {n0 : Nat} {bf : ab_B} : decode (ab_code (zx σ n0 bf).1 1008) 210 = .ok (.iload_n 3, 1) := zd zm_1008 (by decide +kernel)
theorem d_1008_211 {σ : Nat → Nat} {n0 : Nat} {bf : ab_B} : decode (ab_code (zx σ n0 bf).1 1008) 211 = .ok (.iconst 2, 1) := zd zm_1008 (by decide +kernel)
theorem d_1008_212 {σ : Nat → Nat} {n0 : Nat} {bf : ab_B} : decode (ab_code (zx σ n0 bf).1 1008) 212 = .ok (.iadd, 1) := zd zm_1008 (by decide +kernel)
theorem d_1008_213 {σ : Nat → Nat} {n0 : Nat} {bf : ab_B} : decode (ab_code (zx σ n0 bf).1 1008) 213 = .ok (.iaload, 1) := zd zm_1008 (by decide +kernel)
theorem d_1008_214 {σ : Nat → Nat} {n0 : Nat} {bf : ab_B} : decode (ab_code (zx σ n0 bf).1 1008) 214 = .ok (.aload 4, 2) := zd zm_1008 (by decide +kernel)
theorem d_1008_216 {σ : Nat → Nat} {n0 : Nat} {bf : ab_B} : decode (ab_code (zx σ n0 bf).1 1008) 216 = .ok (.iload_n 3, 1) := zd zm_1008 (by decide +kernel)
theorem d_1008_217 {σ : Nat → Nat} {n0 : Nat} {bf : ab_B} : decode (ab_code (zx σ n0 bf).1 1008) 217 = .ok (.iconst 3, 1) := zd zm_1008 (by decide +kernel)
theorem d_1008_218 {σ : Nat → Nat} {n0 : Nat} {bf : ab_B} : decode (ab_code (zx σ n0 bf).1 1008) 218 = .ok (.iadd, 1) := zd zm_1008 (by decide +kernel)
theorem d_1008_219 {σ : Nat → Nat} {n0 : Nat} {bf : ab_B} : decode (ab_code (zx σ n0 bf).1 1008) 219 = .ok (.iaload, 1) := zd zm_1008 (by decide +kernel)
theorem d_1008_220 {σ : Nat → Nat} {n0 : Nat} {bf : ab_B} : decode (ab_code (zx σ n0 bf).1 1008) 220 = .ok (.invokevirtual 232, 3) := zd zm_1008 (by decide +kernel)
theorem d_1008_223 {σ : Nat → Nat} {n0 : Nat} {bf : ab_B} : decode (ab_code (zx σ n0 bf).1 1008) 223 = .ok (.istore 5, 2) := zd zm_1008 (by decide +kernel)
theorem d_1008_225 {σ : Nat → Nat} {n0 : Nat} {bf : ab_B} : decode (ab_code (zx σ n0 bf).1 1008) 225 = .ok (.aload_n 0, 1) := zd zm_1008 (by decide +kernel)
theorem d_1008_226 {σ : Nat → Nat} {n0 : Nat} {bf : ab_B} : decode (ab_code (zx σ n0 bf).1 1008) 226 = .ok (.getfield 49, 3) := zd zm_1008 (by decide +kernel)
theorem d_1008_229 {σ : Nat → Nat} {n0 : Nat} {bf : ab_B} : decode (ab_code (zx σ n0 bf).1 1008) 229 = .ok (.iload 5, 2) := zd zm_1008 (by decide +kernel)
theorem d_1008_231 {σ : Nat → Nat} {n0 : Nat} {bf : ab_B} : decode (ab_code (zx σ n0 bf).1 1008) 231 = .ok (.iaload, 1) := zd zm_1008 (by decide +kernel)
theorem d_1008_232 {σ : Nat → Nat} {n0 : Nat} {bf : ab_B} : decode (ab_code (zx σ n0 bf).1 1008) 232 = .ok (.iconst (-1), 1) := zd zm_1008 (by decide +kernel)
theorem d_1008_233 {σ : Nat → Nat} {n0 : Nat} {bf : ab_B} : decode (ab_code (zx σ n0 bf).1 1008) 233 = .ok (.if_icmp .ne 13, 3) := zd zm_1008 (by decide +kernel)
theorem d_1008_236 {σ : Nat → Nat} {n0 : Nat} {bf : ab_B} : decode (ab_code (zx σ n0 bf).1 1008) 236 = .ok (.aload_n 0, 1) := zd zm_1008 (by decide +kernel)
theorem d_1008_237 {σ : Nat → Nat} {n0 : Nat} {bf : ab_B} : decode (ab_code (zx σ n0 bf).1 1008) 237 = .ok (.iconst 1, 1) := zd zm_1008 (by decide +kernel)
theorem d_1008_238 {σ : Nat → Nat} {n0 : Nat} {bf : ab_B} : decode (ab_code (zx σ n0 bf).1 1008) 238 = .ok (.iload_n 2, 1) := zd zm_1008 (by decide +kernel)
theorem d_1008_239 {σ : Nat → Nat} {n0 : Nat} {bf : ab_B} : decode (ab_code (zx σ n0 bf).1 1008) 239 = .ok (.invokevirtual 194, 3) := zd zm_1008 (by decide +kernel)
theorem d_1008_242 {σ : Nat → Nat} {n0 : Nat} {bf : ab_B} : decode (ab_code (zx σ n0 bf).1 1008) 242 = .ok (.pop, 1) := zd zm_1008 (by decide +kernel)
theorem d_1008_243 {σ : Nat → Nat} {n0 : Nat} {bf : ab_B} : decode (ab_code (zx σ n0 bf).1 1008) 243 = .ok (.goto 625, 3) := zd zm_1008 (by decide +kernel)
theorem d_1008_246 {σ : Nat → Nat} {n0 : Nat} {bf : ab_B} : decode (ab_code (zx σ n0 bf).1 1008) 246 = .ok (.aload_n 0, 1) := zd zm_1008 (by decide +kernel)
theorem d_1008_247 {σ : Nat → Nat} {n0 : Nat} {bf : ab_B} : decode (ab_code (zx σ n0 bf).1 1008) 247 = .ok (.aload_n 0, 1) := zd zm_1008 (by decide +kernel)
theorem d_1008_248 {σ : Nat → Nat} {n0 : Nat} {bf : ab_B} : decode (ab_code (zx σ n0 bf).1 1008) 248 = .ok (.getfield 49, 3) := zd zm_1008 (by decide +kernel)
theorem d_1008_251 {σ : Nat → Nat} {n0 : Nat} {bf : ab_B} : decode (ab_code (zx σ n0 bf).1 1008) 251 = .ok (.iload 5, 2) := zd zm_1008 (by decide +kernel)
theorem d_1008_253 {σ : Nat → Nat} {n0 : Nat} {bf : ab_B} : decode (ab_code (zx σ n0 bf).1 1008) 253 = .ok (.iaload, 1) := zd zm_1008 (by decide +kernel)
theorem d_1008_254 {σ : Nat → Nat} {n0 : Nat} {bf : ab_B} : decode (ab_code (zx σ n0 bf).1 1008) 254 = .ok (.i2l, 1) := zd zm_1008 (by decide +kernel)
theorem d_1008_255 {σ : Nat → Nat} {n0 : Nat} {bf : ab_B} : decode (ab_code (zx σ n0 bf).1 1008) 255 = .ok (.aload_n 0, 1) := zd zm_1008 (by decide +kernel)
theorem d_1008_256 {σ : Nat → Nat} {n0 : Nat} {bf : ab_B} : decode (ab_code (zx σ n0 bf).1 1008) 256 = .ok (.getfield 52, 3) := zd zm_1008 (by decide +kernel)
theorem d_1008_259 {σ : Nat → Nat} {n0 : Nat} {bf : ab_B} : decode (ab_code (zx σ n0 bf).1 1008) 259 = .ok (.iload 5, 2) := zd zm_1008 (by decide +kernel)
theorem d_1008_261 {σ : Nat → Nat} {n0 : Nat} {bf : ab_B} : decode (ab_code (zx σ n0 bf).1 1008) 261 = .ok (.iaload, 1) := zd zm_1008 (by decide +kernel)
theorem d_1008_262 {σ : Nat → Nat} {n0 : Nat} {bf : ab_B} : decode (ab_code (zx σ n0 bf).1 1008) 262 = .ok (.invokevirtual 235, 3) := zd zm_1008 (by decide +kernel)
theorem d_1008_265 {σ : Nat → Nat} {n0 : Nat} {bf : ab_B} : decode (ab_code (zx σ n0 bf).1 1008) 265 = .ok (.goto 603, 3) := zd zm_1008 (by decide +kernel)
theorem d_1008_268 {σ : Nat → Nat} {n0 : Nat} {bf : ab_B} : decode (ab_code (zx σ n0 bf).1 1008) 268 = .ok (.aload_n 0, 1) := zd zm_1008 (by decide +kernel)
theorem d_1008_269 {σ : Nat → Nat} {n0 : Nat} {bf : ab_B} : decode (ab_code (zx σ n0 bf).1 1008) 269 = .ok (.aload_n 0, 1) := zd zm_1008 (by decide +kernel)
theorem d_1008_270 {σ : Nat → Nat} {n0 : Nat} {bf : ab_B} : decode (ab_code (zx σ n0 bf).1 1008) 270 = .ok (.getfield 107, 3) := zd zm_1008 (by decide +kernel)
theorem d_1008_273 {σ : Nat → Nat} {n0 : Nat} {bf : ab_B} : decode (ab_code (zx σ n0 bf).1 1008) 273 = .ok (.getfield 239, 3) := zd zm_1008 (by decide +kernel)
theorem d_1008_276 {σ : Nat → Nat} {n0 : Nat} {bf : ab_B} : decode (ab_code (zx σ n0 bf).1 1008) 276 = .ok (.aload 4, 2) := zd zm_1008 (by decide +kernel)
theorem d_1008_278 {σ : Nat → Nat} {n0 : Nat} {bf : ab_B} : decode (ab_code (zx σ n0 bf).1 1008) 278 = .ok (.iload_n 3, 1) := zd zm_1008 (by decide +kernel)
theorem d_1008_279 {σ : Nat → Nat} {n0 : Nat} {bf : ab_B} : decode (ab_code (zx σ n0 bf).1 1008) 279 = .ok (.iconst 2, 1) := zd zm_1008 (by decide +kernel)
theorem d_1008_280 {σ : Nat → Nat} {n0 : Nat} {bf : ab_B} : decode (ab_code (zx σ n0 bf).1 1008) 280 = .ok (.iadd, 1) := zd zm_1008 (by decide +kernel)
theorem d_1008_281 {σ : Nat → Nat} {n0 : Nat} {bf : ab_B} : decode (ab_code (zx σ n0 bf).1 1008) 281 = .ok (.iaload, 1) := zd zm_1008 (by decide +kernel)
theorem d_1008_282 {σ : Nat → Nat} {n0 : Nat} {bf : ab_B} : decode (ab_code (zx σ n0 bf).1 1008) 282 = .ok (.invokevirtual 162, 3) := zd zm_1008 (by decide +kernel)
theorem d_1008_285 {σ : Nat → Nat} {n0 : Nat} {bf : ab_B} : decode (ab_code (zx σ n0 bf).1 1008) 285 = .ok (.checkcast 91, 3) := zd zm_1008 (by decide +kernel)
theorem d_1008_288 {σ : Nat → Nat} {n0 : Nat} {bf : ab_B} : decode (ab_code (zx σ n0 bf).1 1008) 288 = .ok (.iload_n 2, 1) := zd zm_1008 (by decide +kernel)
theorem d_1008_289 {σ : Nat → Nat} {n0 : Nat} {bf : ab_B} : decode (ab_code (zx σ n0 bf).1 1008) 289 = .ok (.invokevirtual 242, 3) := zd zm_1008 (by decide +kernel)
theorem d_1008_292 {σ : Nat → Nat} {n0 : Nat} {bf : ab_B} : decode (ab_code (zx σ n0 bf).1 1008) 292 = .ok (.goto 576, 3) := zd zm_1008 (by decide +kernel)
theorem d_1008_295 {σ : Nat → Nat} {n0 : Nat} {bf : ab_B} : decode (ab_code (zx σ n0 bf).1 1008) 295 = .ok (.aload_n 0, 1) := zd zm_1008 (by decide +kernel)
theorem d_1008_296 {σ : Nat → Nat} {n0 : Nat} {bf : ab_B} : decode (ab_code (zx σ n0 bf).1 1008) 296 = .ok (.getfield 107, 3) := zd zm_1008 (by decide +kernel)
theorem d_1008_299 {σ : Nat → Nat} {n0 : Nat} {bf : ab_B} : decode (ab_code (zx σ n0 bf).1 1008) 299 = .ok (.getfield 239, 3) := zd zm_1008 (by decide +kernel)
theorem d_1008_302 {σ : Nat → Nat} {n0 : Nat} {bf : ab_B} : decode (ab_code (zx σ n0 bf).1 1008) 302 = .ok (.aload 4, 2) := zd zm_1008 (by decide +kernel)
theorem d_1008_304 {σ : Nat → Nat} {n0 : Nat} {bf : ab_B} : decode (ab_code (zx σ n0 bf).1 1008) 304 = .ok (.iload_n 3, 1) := zd zm_1008 (by decide +kernel)
theorem d_1008_305 {σ : Nat → Nat} {n0 : Nat} {bf : ab_B} : decode (ab_code (zx σ n0 bf).1 1008) 305 = .ok (.iconst 2, 1) := zd zm_1008 (by decide +kernel)
theorem d_1008_306 {σ : Nat → Nat} {n0 : Nat} {bf : ab_B} : decode (ab_code (zx σ n0 bf).1 1008) 306 = .ok (.iadd, 1) := zd zm_1008 (by decide +kernel)
theorem d_1008_307 {σ : Nat → Nat} {n0 : Nat} {bf : ab_B} : decode (ab_code (zx σ n0 bf).1 1008) 307 = .ok (.iaload, 1) := zd zm_1008 (by decide +kernel)
theorem d_1008_308 {σ : Nat → Nat} {n0 : Nat} {bf : ab_B} : decode (ab_code (zx σ n0 bf).1 1008) 308 = .ok (.invokevirtual 162, 3) := zd zm_1008 (by decide +kernel)
theorem d_1008_311 {σ : Nat → Nat} {n0 : Nat} {bf : ab_B} : decode (ab_code (zx σ n0 bf).1 1008) 311 = .ok (.checkcast 91, 3) := zd zm_1008 (by decide +kernel)
theorem d_1008_314 {σ : Nat → Nat} {n0 : Nat} {bf : ab_B} : decode (ab_code (zx σ n0 bf).1 1008) 314 = .ok (.astore 6, 2) := zd zm_1008 (by decide +kernel)
theorem d_1008_316 {σ : Nat → Nat} {n0 : Nat} {bf : ab_B} : decode (ab_code (zx σ n0 bf).1 1008) 316 = .ok (.aload_n 0, 1) := zd zm_1008 (by decide +kernel)
theorem d_1008_317 {σ : Nat → Nat} {n0 : Nat} {bf : ab_B} : decode (ab_code (zx σ n0 bf).1 1008) 317 = .ok (.aload 6, 2) := zd zm_1008 (by decide +kernel)
theorem d_1008_319 {σ : Nat → Nat} {n0 : Nat} {bf : ab_B} : decode (ab_code (zx σ n0 bf).1 1008) 319 = .ok (.getfield 246, 3) := zd zm_1008 (by decide +kernel)
theorem d_1008_322 {σ : Nat → Nat} {n0 : Nat} {bf : ab_B} : decode (ab_code (zx σ n0 bf).1 1008) 322 = .ok (.aload_n 0, 1) := zd zm_1008 (by decide +kernel)
theorem d_1008_323 {σ : Nat → Nat} {n0 : Nat} {bf : ab_B} : decode (ab_code (zx σ n0 bf).1 1008) 323 = .ok (.getfield 107, 3) := zd zm_1008 (by decide +kernel)
theorem d_1008_326 {σ : Nat → Nat} {n0 : Nat} {bf : ab_B} : decode (ab_code (zx σ n0 bf).1 1008) 326 = .ok (.getfield 250, 3) := zd zm_1008 (by decide +kernel)
theorem d_1008_329 {σ : Nat → Nat} {n0 : Nat} {bf : ab_B} : decode (ab_code (zx σ n0 bf).1 1008) 329 = .ok (.aload 4, 2) := zd zm_1008 (by decide +kernel)
theorem d_1008_331 {σ : Nat → Nat} {n0 : Nat} {bf : ab_B} : decode (ab_code (zx σ n0 bf).1 1008) 331 = .ok (.iload_n 3, 1) := zd zm_1008 (by decide +kernel)
theorem d_1008_332 {σ : Nat → Nat} {n0 : Nat} {bf : ab_B} : decode (ab_code (zx σ n0 bf).1 1008) 332 = .ok (.iconst 3, 1) := zd zm_1008 (by decide +kernel)
theorem d_1008_333 {σ : Nat → Nat} {n0 : Nat} {bf : ab_B} : decode (ab_code (zx σ n0 bf).1 1008) 333 = .ok (.iadd, 1) := zd zm_1008 (by decide +kernel)
theorem d_1008_334 {σ : Nat → Nat} {n0 : Nat} {bf : ab_B} : decode (ab_code (zx σ n0 bf).1 1008) 334 = .ok (.iaload, 1) := zd zm_1008 (by decide +kernel)
theorem d_1008_335 {σ : Nat → Nat} {n0 : Nat} {bf : ab_B} : decode (ab_code (zx σ n0 bf).1 1008) 335 = .ok (.invokevirtual 162, 3) := zd zm_1008 (by decide +kernel)
theorem d_1008_338 {σ : Nat → Nat} {n0 : Nat} {bf : ab_B} : decode (ab_code (zx σ n0 bf).1 1008) 338 = .ok (.checkcast 252, 3) := zd zm_1008 (by decide +kernel)
theorem d_1008_341 {σ : Nat → Nat} {n0 : Nat} {bf : ab_B} : decode (ab_code (zx σ n0 bf).1 1008) 341 = .ok (.iload_n 2, 1) := zd zm_1008 (by decide +kernel)
theorem d_1008_342 {σ : Nat → Nat} {n0 : Nat} {bf : ab_B} : decode (ab_code (zx σ n0 bf).1 1008) 342 = .ok (.invokevirtual 254, 3) := zd zm_1008 (by decide +kernel)
theorem d_1008_345 {σ : Nat → Nat} {n0 : Nat} {bf : ab_B} : decode (ab_code (zx σ n0 bf).1 1008) 345 = .ok (.goto 523, 3) := zd zm_1008 (by decide +kernel)
theorem d_1008_348 {σ : Nat → Nat} {n0 : Nat} {bf : ab_B} : decode (ab_code (zx σ n0 bf).1 1008) 348 = .ok (.aload_n 0, 1) := zd zm_1008 (by decide +kernel)
theorem d_1008_349 {σ : Nat → Nat} {n0 : Nat} {bf : ab_B} : decode (ab_code (zx σ n0 bf).1 1008) 349 = .ok (.getfield 107, 3) := zd zm_1008 (by decide +kernel)
theorem d_1008_352 {σ : Nat → Nat} {n0 : Nat} {bf : ab_B} : decode (ab_code (zx σ n0 bf).1 1008) 352 = .ok (.getfield 239, 3) := zd zm_1008 (by decide +kernel)
theorem d_1008_355 {σ : Nat → Nat} {n0 : Nat} {bf : ab_B} : decode (ab_code (zx σ n0 bf).1 1008) 355 = .ok (.aload 4, 2) := zd zm_1008 (by decide +kernel)
theorem d_1008_357 {σ : Nat → Nat} {n0 : Nat} {bf : ab_B} : decode (ab_code (zx σ n0 bf).1 1008) 357 = .ok (.iload_n 3, 1) := zd zm_1008 (by decide +kernel)
theorem d_1008_358 {σ : Nat → Nat} {n0 : Nat} {bf : ab_B} : decode (ab_code (zx σ n0 bf).1 1008) 358 = .ok (.iconst 2, 1) := zd zm_1008 (by decide +kernel)
theorem d_1008_359 {σ : Nat → Nat} {n0 : Nat} {bf : ab_B} : decode (ab_code (zx σ n0 bf).1 1008) 359 = .ok (.iadd, 1) := zd zm_1008 (by decide +kernel)
theorem d_1008_360 {σ : Nat → Nat} {n0 : Nat} {bf : ab_B} : decode (ab_code (zx σ n0 bf).1 1008) 360 = .ok (.iaload, 1) := zd zm_1008 (by decide +kernel)
theorem d_1008_361 {σ : Nat → Nat} {n0 : Nat} {bf : ab_B} : decode (ab_code (zx σ n0 bf).1 1008) 361 = .ok (.invokevirtual 162, 3) := zd zm_1008 (by decide +kernel)
theorem d_1008_364 {σ : Nat → Nat} {n0 : Nat} {bf : ab_B} : decode (ab_code (zx σ n0 bf).1 1008) 364 = .ok (.checkcast 91, 3) := zd zm_1008 (by decide +kernel)
theorem d_1008_367 {σ : Nat → Nat} {n0 : Nat} {bf : ab_B} : decode (ab_code (zx σ n0 bf).1 1008) 367 = .ok (.astore 7, 2) := zd zm_1008 (by decide +kernel)
theorem d_1008_369 {σ : Nat → Nat} {n0 : Nat} {bf : ab_B} : decode (ab_code (zx σ n0 bf).1 1008) 369 = .ok (.ldc_w 258, 3) := zd zm_1008 (by decide +kernel)
theorem d_1008_372 {σ : Nat → Nat} {n0 : Nat} {bf : ab_B} : decode (ab_code (zx σ n0 bf).1 1008) 372 = .ok (.iconst 4, 1) := zd zm_1008 (by decide +kernel)
theorem d_1008_373 {σ : Nat → Nat} {n0 : Nat} {bf : ab_B} : decode (ab_code (zx σ n0 bf).1 1008) 373 = .ok (.aload_n 0, 1) := zd zm_1008 (by decide +kernel)
theorem d_1008_374 {σ : Nat → Nat} {n0 : Nat} {bf : ab_B} : decode (ab_code (zx σ n0 bf).1 1008) 374 = .ok (.getfield 111, 3) := zd zm_1008 (by decide +kernel)
theorem d_1008_377 {σ : Nat → Nat} {n0 : Nat} {bf : ab_B} : decode (ab_code (zx σ n0 bf).1 1008) 377 = .ok (.iconst 1, 1) := zd zm_1008 (by decide +kernel)
theorem d_1008_378 {σ : Nat → Nat} {n0 : Nat} {bf : ab_B} : decode (ab_code (zx σ n0 bf).1 1008) 378 = .ok (.isub, 1) := zd zm_1008 (by decide +kernel)
theorem d_1008_379 {σ : Nat → Nat} {n0 : Nat} {bf : ab_B} : decode (ab_code (zx σ n0 bf).1 1008) 379 = .ok (.imul, 1) := zd zm_1008 (by decide +kernel)
theorem d_1008_380 {σ : Nat → Nat} {n0 : Nat} {bf : ab_B} : decode (ab_code (zx σ n0 bf).1 1008) 380 = .ok (.iadd, 1) := zd zm_1008 (by decide +kernel)
theorem d_1008_381 {σ : Nat → Nat} {n0 : Nat} {bf : ab_B} : decode (ab_code (zx σ n0 bf).1 1008) 381 = .ok (.istore 8, 2) := zd zm_1008 (by decide +kernel)
theorem d_1008_383 {σ : Nat → Nat} {n0 : Nat} {bf : ab_B} : decode (ab_code (zx σ n0 bf).1 1008) 383 = .ok (.aload_n 0, 1) := zd zm_1008 (by decide +kernel)
theorem d_1008_384 {σ : Nat → Nat} {n0 : Nat} {bf : ab_B} : decode (ab_code (zx σ n0 bf).1 1008) 384 = .ok (.aload 7, 2) := zd zm_1008 (by decide +kernel)
theorem d_1008_386 {σ : Nat → Nat} {n0 : Nat} {bf : ab_B} : decode (ab_code (zx σ n0 bf).1 1008) 386 = .ok (.iload 8, 2) := zd zm_1008 (by decide +kernel)
theorem d_1008_388 {σ : Nat → Nat} {n0 : Nat} {bf : ab_B} : decode (ab_code (zx σ n0 bf).1 1008) 388 = .ok (.invokevirtual 259, 3) := zd zm_1008 (by decide +kernel)
theorem d_1008_391 {σ : Nat → Nat} {n0 : Nat} {bf : ab_B} : decode (ab_code (zx σ n0 bf).1 1008) 391 = .ok (.aload_n 0, 1) := zd zm_1008 (by decide +kernel)
theorem d_1008_392 {σ : Nat → Nat} {n0 : Nat} {bf : ab_B} : decode (ab_code (zx σ n0 bf).1 1008) 392 = .ok (.getfield 39, 3) := zd zm_1008 (by decide +kernel)
theorem d_1008_395 {σ : Nat → Nat} {n0 : Nat} {bf : ab_B} : decode (ab_code (zx σ n0 bf).1 1008) 395 = .ok (.aload_n 0, 1) := zd zm_1008 (by decide +kernel)
theorem d_1008_396 {σ : Nat → Nat} {n0 : Nat} {bf : ab_B} : decode (ab_code (zx σ n0 bf).1 1008) 396 = .ok (.getfield 111, 3) := zd zm_1008 (by decide +kernel)
theorem d_1008_399 {σ : Nat → Nat} {n0 : Nat} {bf : ab_B} : decode (ab_code (zx σ n0 bf).1 1008) 399 = .ok (.iconst 1, 1) := zd zm_1008 (by decide +kernel)
theorem d_1008_400 {σ : Nat → Nat} {n0 : Nat} {bf : ab_B} : decode (ab_code (zx σ n0 bf).1 1008) 400 = .ok (.isub, 1) := zd zm_1008 (by decide +kernel)
theorem d_1008_401 {σ : Nat → Nat} {n0 : Nat} {bf : ab_B} : decode (ab_code (zx σ n0 bf).1 1008) 401 = .ok (.iload 8, 2) := zd zm_1008 (by decide +kernel)
theorem d_1008_403 {σ : Nat → Nat} {n0 : Nat} {bf : ab_B} : decode (ab_code (zx σ n0 bf).1 1008) 403 = .ok (.iastore, 1) := zd zm_1008 (by decide +kernel)
theorem d_1008_404 {σ : Nat → Nat} {n0 : Nat} {bf : ab_B} : decode (ab_code (zx σ n0 bf).1 1008) 404 = .ok (.goto 464, 3) := zd zm_1008 (by decide +kernel)
theorem d_1008_407 {σ : Nat → Nat} {n0 : Nat} {bf : ab_B} : decode (ab_code (zx σ n0 bf).1 1008) 407 = .ok (.aload_n 0, 1) := zd zm_1008 (by decide +kernel)
theorem d_1008_408 {σ : Nat → Nat} {n0 : Nat} {bf : ab_B} : decode (ab_code (zx σ n0 bf).1 1008) 408 = .ok (.aload_n 0, 1) := zd zm_1008 (by decide +kernel)
theorem d_1008_409 {σ : Nat → Nat} {n0 : Nat} {bf : ab_B} : decode (ab_code (zx σ n0 bf).1 1008) 409 = .ok (.getfield 107, 3) := zd zm_1008 (by decide +kernel)
theorem d_1008_412 {σ : Nat → Nat} {n0 : Nat} {bf : ab_B} : decode (ab_code (zx σ n0 bf).1 1008) 412 = .ok (.getfield 239, 3) := zd zm_1008 (by decide +kernel)
theorem d_1008_415 {σ : Nat → Nat} {n0 : Nat} {bf : ab_B} : decode (ab_code (zx σ n0 bf).1 1008) 415 = .ok (.aload 4, 2) := zd zm_1008 (by decide +kernel)
theorem d_1008_417 {σ : Nat → Nat} {n0 : Nat} {bf : ab_B} : decode (ab_code (zx σ n0 bf).1 1008) 417 = .ok (.iload_n 3, 1) := zd zm_1008 (by decide +kernel)
theorem d_1008_418 {σ : Nat → Nat} {n0 : Nat} {bf : ab_B} : decode (ab_code (zx σ n0 bf).1 1008) 418 = .ok (.iconst 2, 1) := zd zm_1008 (by decide +kernel)
theorem d_1008_419 {σ : Nat → Nat} {n0 : Nat} {bf : ab_B} : decode (ab_code (zx σ n0 bf).1 1008) 419 = .ok (.iadd, 1) := zd zm_1008 (by decide +kernel)
theorem d_1008_420 {σ : Nat → Nat} {n0 : Nat} {bf : ab_B} : decode (ab_code (zx σ n0 bf).1 1008) 420 = .ok (.iaload, 1) := zd zm_1008 (by decide +kernel)
theorem d_1008_421 {σ : Nat → Nat} {n0 : Nat} {bf : ab_B} : decode (ab_code (zx σ n0 bf).1 1008) 421 = .ok (.invokevirtual 162, 3) := zd zm_1008 (by decide +kernel)
theorem d_1008_424 {σ : Nat → Nat} {n0 : Nat} {bf : ab_B} : decode (ab_code (zx σ n0 bf).1 1008) 424 = .ok (.checkcast 91, 3) := zd zm_1008 (by decide +kernel)
theorem d_1008_427 {σ : Nat → Nat} {n0 : Nat} {bf : ab_B} : decode (ab_code (zx σ n0 bf).1 1008) 427 = .ok (.iload_n 2, 1) := zd zm_1008 (by decide +kernel)
theorem d_1008_428 {σ : Nat → Nat} {n0 : Nat} {bf : ab_B} : decode (ab_code (zx σ n0 bf).1 1008) 428 = .ok (.invokevirtual 262, 3) := zd zm_1008 (by decide +kernel)
theorem d_1008_431 {σ : Nat → Nat} {n0 : Nat} {bf : ab_B} : decode (ab_code (zx σ n0 bf).1 1008) 431 = .ok (.goto 437, 3) := zd zm_1008 (by decide +kernel)
theorem d_1008_434 {σ : Nat → Nat} {n0 : Nat} {bf : ab_B} : decode (ab_code (zx σ n0 bf).1 1008) 434 = .ok (.aload_n 0, 1) := zd zm_1008 (by decide +kernel)
theorem d_1008_435 {σ : Nat → Nat} {n0 : Nat} {bf : ab_B} : decode (ab_code (zx σ n0 bf).1 1008) 435 = .ok (.getfield 36, 3) := zd zm_1008 (by decide +kernel)
theorem d_1008_438 {σ : Nat → Nat} {n0 : Nat} {bf : ab_B} : decode (ab_code (zx σ n0 bf).1 1008) 438 = .ok (.aload_n 0, 1) := zd zm_1008 (by decide +kernel)
theorem d_1008_439 {σ : Nat → Nat} {n0 : Nat} {bf : ab_B} : decode (ab_code (zx σ n0 bf).1 1008) 439 = .ok (.dup, 1) := zd zm_1008 (by decide +kernel)
theorem d_1008_440 {σ : Nat → Nat} {n0 : Nat} {bf : ab_B} : decode (ab_code (zx σ n0 bf).1 1008) 440 = .ok (.getfield 111, 3) := zd zm_1008 (by decide +kernel)
theorem d_1008_443 {σ : Nat → Nat} {n0 : Nat} {bf : ab_B} : decode (ab_code (zx σ n0 bf).1 1008) 443 = .ok (.iconst 1, 1) := zd zm_1008 (by decide +kernel)
theorem d_1008_444 {σ : Nat → Nat} {n0 : Nat} {bf : ab_B} : decode (ab_code (zx σ n0 bf).1 1008) 444 = .ok (.isub, 1) := zd zm_1008 (by decide +kernel)
theorem d_1008_445 {σ : Nat → Nat} {n0 : Nat} {bf : ab_B} : decode (ab_code (zx σ n0 bf).1 1008) 445 = .ok (.dup_x1, 1) := zd zm_1008 (by decide +kernel)
theorem d_1008_446 {σ : Nat → Nat} {n0 : Nat} {bf : ab_B} : decode (ab_code (zx σ n0 bf).1 1008) 446 = .ok (.putfield 111, 3) := zd zm_1008 (by decide +kernel)
theorem d_1008_449 {σ : Nat → Nat} {n0 : Nat} {bf : ab_B} : decode (ab_code (zx σ n0 bf).1 1008) 449 = .ok (.laload, 1) := zd zm_1008 (by decide +kernel)
theorem d_1008_450 {σ : Nat → Nat} {n0 : Nat} {bf : ab_B} : decode (ab_code (zx σ n0 bf).1 1008) 450 = .ok (.l2i, 1) := zd zm_1008 (by decide +kernel)
theorem d_1008_451 {σ : Nat → Nat} {n0 : Nat} {bf : ab_B} : decode (ab_code (zx σ n0 bf).1 1008) 451 = .ok (.istore 9, 2) := zd zm_1008 (by decide +kernel)
theorem d_1008_453 {σ : Nat → Nat} {n0 : Nat} {bf : ab_B} : decode (ab_code (zx σ n0 bf).1 1008) 453 = .ok (.aload_n 0, 1) := zd zm_1008 (by decide +kernel)
theorem d_1008_454 {σ : Nat → Nat} {n0 : Nat} {bf : ab_B} : decode (ab_code (zx σ n0 bf).1 1008) 454 = .ok (.iload 9, 2) := zd zm_1008 (by decide +kernel)
theorem d_1008_456 {σ : Nat → Nat} {n0 : Nat} {bf : ab_B} : decode (ab_code (zx σ n0 bf).1 1008) 456 = .ok (.aload_n 0, 1) := zd zm_1008 (by decide +kernel)
theorem d_1008_457 {σ : Nat → Nat} {n0 : Nat} {bf : ab_B} : decode (ab_code (zx σ n0 bf).1 1008) 457 = .ok (.getfield 39, 3) := zd zm_1008 (by decide +kernel)
theorem d_1008_460 {σ : Nat → Nat} {n0 : Nat} {bf : ab_B} : decode (ab_code (zx σ n0 bf).1 1008) 460 = .ok (.aload_n 0, 1) := zd zm_1008 (by decide +kernel)
theorem d_1008_461 {σ : Nat → Nat} {n0 : Nat} {bf : ab_B} : decode (ab_code (zx σ n0 bf).1 1008) 461 = .ok (.getfield 111, 3) := zd zm_1008 (by decide +kernel)
theorem d_1008_464 {σ : Nat → Nat} {n0 : Nat} {bf : ab_B} : decode (ab_code (zx σ n0 bf).1 1008) 464 = .ok (.iaload, 1) := zd zm_1008 (by decide +kernel)
theorem d_1008_465 {σ : Nat → Nat} {n0 : Nat} {bf : ab_B} : decode (ab_code (zx σ n0 bf).1 1008) 465 = .ok (.aload_n 0, 1) := zd zm_1008 (by decide +kernel)
theorem d_1008_466 {σ : Nat → Nat} {n0 : Nat} {bf : ab_B} : decode (ab_code (zx σ n0 bf).1 1008) 466 = .ok (.getfield 107, 3) := zd zm_1008 (by decide +kernel)
theorem d_1008_469 {σ : Nat → Nat} {n0 : Nat} {bf : ab_B} : decode (ab_code (zx σ n0 bf).1 1008) 469 = .ok (.getfield 239, 3) := zd zm_1008 (by decide +kernel)
theorem d_1008_472 {σ : Nat → Nat} {n0 : Nat} {bf : ab_B} : decode (ab_code (zx σ n0 bf).1 1008) 472 = .ok (.aload 4, 2) := zd zm_1008 (by decide +kernel)
theorem d_1008_474 {σ : Nat → Nat} {n0 : Nat} {bf : ab_B} : decode (ab_code (zx σ n0 bf).1 1008) 474 = .ok (.iload_n 3, 1) := zd zm_1008 (by decide +kernel)
theorem d_1008_475 {σ : Nat → Nat} {n0 : Nat} {bf : ab_B} : decode (ab_code (zx σ n0 bf).1 1008) 475 = .ok (.iconst 2, 1) := zd zm_1008 (by decide +kernel)
theorem d_1008_476 {σ : Nat → Nat} {n0 : Nat} {bf : ab_B} : decode (ab_code (zx σ n0 bf).1 1008) 476 = .ok (.iadd, 1) := zd zm_1008 (by decide +kernel)
theorem d_1008_477 {σ : Nat → Nat} {n0 : Nat} {bf : ab_B} : decode (ab_code (zx σ n0 bf).1 1008) 477 = .ok (.iaload, 1) := zd zm_1008 (by decide +kernel)
theorem d_1008_478 {σ : Nat → Nat} {n0 : Nat} {bf : ab_B} : decode (ab_code (zx σ n0 bf).1 1008) 478 = .ok (.invokevirtual 162, 3) := zd zm_1008 (by decide +kernel)
theorem d_1008_481 {σ : Nat → Nat} {n0 : Nat} {bf : ab_B} : decode (ab_code (zx σ n0 bf).1 1008) 481 = .ok (.checkcast 91, 3) := zd zm_1008 (by decide +kernel)
theorem d_1008_484 {σ : Nat → Nat} {n0 : Nat} {bf : ab_B} : decode (ab_code (zx σ n0 bf).1 1008) 484 = .ok (.invokevirtual 265, 3) := zd zm_1008 (by decide +kernel)
theorem d_1008_487 {σ : Nat → Nat} {n0 : Nat} {bf : ab_B} : decode (ab_code (zx σ n0 bf).1 1008) 487 = .ok (.ifCond .ne 13, 3) := zd zm_1008 (by decide +kernel)
theorem d_1008_490 {σ : Nat → Nat} {n0 : Nat} {bf : ab_B} : decode (ab_code (zx σ n0 bf).1 1008) 490 = .ok (.aload_n 0, 1) := zd zm_1008 (by decide +kernel)
theorem d_1008_491 {σ : Nat → Nat} {n0 : Nat} {bf : ab_B} : decode (ab_code (zx σ n0 bf).1 1008) 491 = .ok (.iconst 1, 1) := zd zm_1008 (by decide +kernel)
theorem d_1008_492 {σ : Nat → Nat} {n0 : Nat} {bf : ab_B} : decode (ab_code (zx σ n0 bf).1 1008) 492 = .ok (.iload_n 2, 1) := zd zm_1008 (by decide +kernel)
theorem d_1008_493 {σ : Nat → Nat} {n0 : Nat} {bf : ab_B} : decode (ab_code (zx σ n0 bf).1 1008) 493 = .ok (.invokevirtual 194, 3) := zd zm_1008 (by decide +kernel)
theorem d_1008_496 {σ : Nat → Nat} {n0 : Nat} {bf : ab_B} : decode (ab_code (zx σ n0 bf).1 1008) 496 = .ok (.pop, 1) := zd zm_1008 (by decide +kernel)
theorem d_1008_497 {σ : Nat → Nat} {n0 : Nat} {bf : ab_B} : decode (ab_code (zx σ n0 bf).1 1008) 497 = .ok (.goto 371, 3) := zd zm_1008 (by decide +kernel)
theorem d_1008_500 {σ : Nat → Nat} {n0 : Nat} {bf : ab_B} : decode (ab_code (zx σ n0 bf).1 1008) 500 = .ok (.aload_n 0, 1) := zd zm_1008 (by decide +kernel)
theorem d_1008_501 {σ : Nat → Nat} {n0 : Nat} {bf : ab_B} : decode (ab_code (zx σ n0 bf).1 1008) 501 = .ok (.aload_n 0, 1) := zd zm_1008 (by decide +kernel)
theorem d_1008_502 {σ : Nat → Nat} {n0 : Nat} {bf : ab_B} : decode (ab_code (zx σ n0 bf).1 1008) 502 = .ok (.getfield 10, 3) := zd zm_1008 (by decide +kernel)
theorem d_1008_505 {σ : Nat → Nat} {n0 : Nat} {bf : ab_B} : decode (ab_code (zx σ n0 bf).1 1008) 505 = .ok (.iload 9, 2) := zd zm_1008 (by decide +kernel)
theorem d_1008_507 {σ : Nat → Nat} {n0 : Nat} {bf : ab_B} : decode (ab_code (zx σ n0 bf).1 1008) 507 = .ok (.laload, 1) := zd zm_1008 (by decide +kernel)
theorem d_1008_508 {σ : Nat → Nat} {n0 : Nat} {bf : ab_B} : decode (ab_code (zx σ n0 bf).1 1008) 508 = .ok (.invokevirtual 223, 3) := zd zm_1008 (by decide +kernel)
theorem d_1008_511 {σ : Nat → Nat} {n0 : Nat} {bf : ab_B} : decode (ab_code (zx σ n0 bf).1 1008) 511 = .ok (.goto 357, 3) := zd zm_1008 (by decide +kernel)
theorem d_1008_514 {σ : Nat → Nat} {n0 : Nat} {bf : ab_B} : decode (ab_code (zx σ n0 bf).1 1008) 514 = .ok (.aload_n 0, 1) := zd zm_1008 (by decide +kernel)
theorem d_1008_515 {σ : Nat → Nat} {n0 : Nat} {bf : ab_B} : decode (ab_code (zx σ n0 bf).1 1008) 515 = .ok (.dup, 1) := zd zm_1008 (by decide +kernel)
theorem d_1008_516 {σ : Nat → Nat} {n0 : Nat} {bf : ab_B} : decode (ab_code (zx σ n0 bf).1 1008) 516 = .ok (.getfield 111, 3) := zd zm_1008 (by decide +kernel)
theorem d_1008_519 {σ : Nat → Nat} {n0 : Nat} {bf : ab_B} : decode (ab_code (zx σ n0 bf).1 1008) 519 = .ok (.iconst 1, 1) := zd zm_1008 (by decide +kernel)
theorem d_1008_520 {σ : Nat → Nat} {n0 : Nat} {bf : ab_B} : decode (ab_code (zx σ n0 bf).1 1008) 520 = .ok (.isub, 1) := zd zm_1008 (by decide +kernel)
theorem d_1008_521 {σ : Nat → Nat} {n0 : Nat} {bf : ab_B} : decode (ab_code (zx σ n0 bf).1 1008) 521 = .ok (.putfield 111, 3) := zd zm_1008 (by decide +kernel)
theorem d_1008_524 {σ : Nat → Nat} {n0 : Nat} {bf : ab_B} : decode (ab_code (zx σ n0 bf).1 1008) 524 = .ok (.aload_n 0, 1) := zd zm_1008 (by decide +kernel)
theorem d_1008_525 {σ : Nat → Nat} {n0 : Nat} {bf : ab_B} : decode (ab_code (zx σ n0 bf).1 1008) 525 = .ok (.aload_n 0, 1) := zd zm_1008 (by decide +kernel)
theorem d_1008_526 {σ : Nat → Nat} {n0 : Nat} {bf : ab_B} : decode (ab_code (zx σ n0 bf).1 1008) 526 = .ok (.getfield 36, 3) := zd zm_1008 (by decide +kernel)
theorem d_1008_529 {σ : Nat → Nat} {n0 : Nat} {bf : ab_B} : decode (ab_code (zx σ n0 bf).1 1008) 529 = .ok (.aload_n 0, 1) := zd zm_1008 (by decide +kernel)
theorem d_1008_530 {σ : Nat → Nat} {n0 : Nat} {bf : ab_B} : decode (ab_code (zx σ n0 bf).1 1008) 530 = .ok (.getfield 111, 3) := zd zm_1008 (by decide +kernel)
theorem d_1008_533 {σ : Nat → Nat} {n0 : Nat} {bf : ab_B} : decode (ab_code (zx σ n0 bf).1 1008) 533 = .ok (.laload, 1) := zd zm_1008 (by decide +kernel)
theorem d_1008_534 {σ : Nat → Nat} {n0 : Nat} {bf : ab_B} : decode (ab_code (zx σ n0 bf).1 1008) 534 = .ok (.l2i, 1) := zd zm_1008 (by decide +kernel)
theorem d_1008_535 {σ : Nat → Nat} {n0 : Nat} {bf : ab_B} : decode (ab_code (zx σ n0 bf).1 1008) 535 = .ok (.aload_n 0, 1) := zd zm_1008 (by decide +kernel)
theorem d_1008_536 {σ : Nat → Nat} {n0 : Nat} {bf : ab_B} : decode (ab_code (zx σ n0 bf).1 1008) 536 = .ok (.getfield 39, 3) := zd zm_1008 (by decide +kernel)
theorem d_1008_539 {σ : Nat → Nat} {n0 : Nat} {bf : ab_B} : decode (ab_code (zx σ n0 bf).1 1008) 539 = .ok (.aload_n 0, 1) := zd zm_1008 (by decide +kernel)
theorem d_1008_540 {σ : Nat → Nat} {n0 : Nat} {bf : ab_B} : decode (ab_code (zx σ n0 bf).1 1008) 540 = .ok (.getfield 111, 3) := zd zm_1008 (by decide +kernel)
theorem d_1008_543 {σ : Nat → Nat} {n0 : Nat} {bf : ab_B} : decode (ab_code (zx σ n0 bf).1 1008) 543 = .ok (.iaload, 1) := zd zm_1008 (by decide +kernel)
theorem d_1008_544 {σ : Nat → Nat} {n0 : Nat} {bf : ab_B} : decode (ab_code (zx σ n0 bf).1 1008) 544 = .ok (.aload_n 0, 1) := zd zm_1008 (by decide +kernel)
theorem d_1008_545 {σ : Nat → Nat} {n0 : Nat} {bf : ab_B} : decode (ab_code (zx σ n0 bf).1 1008) 545 = .ok (.getfield 107, 3) := zd zm_1008 (by decide +kernel)
theorem d_1008_548 {σ : Nat → Nat} {n0 : Nat} {bf : ab_B} : decode (ab_code (zx σ n0 bf).1 1008) 548 = .ok (.getfield 239, 3) := zd zm_1008 (by decide +kernel)
theorem d_1008_551 {σ : Nat → Nat} {n0 : Nat} {bf : ab_B} : decode (ab_code (zx σ n0 bf).1 1008) 551 = .ok (.aload 4, 2) := zd zm_1008 (by decide +kernel)
theorem d_1008_553 {σ : Nat → Nat} {n0 : Nat} {bf : ab_B} : decode (ab_code (zx σ n0 bf).1 1008) 553 = .ok (.iload_n 3, 1) := zd zm_1008 (by decide +kernel)
theorem d_1008_554 {σ : Nat → Nat} {n0 : Nat} {bf : ab_B} : decode (ab_code (zx σ n0 bf).1 1008) 554 = .ok (.iconst 2, 1) := zd zm_1008 (by decide +kernel)
theorem d_1008_555 {σ : Nat → Nat} {n0 : Nat} {bf : ab_B} : decode (ab_code (zx σ n0 bf).1 1008) 555 = .ok (.iadd, 1) := zd zm_1008 (by decide +kernel)
theorem d_1008_556 {σ : Nat → Nat} {n0 : Nat} {bf : ab_B} : decode (ab_code (zx σ n0 bf).1 1008) 556 = .ok (.iaload, 1) := zd zm_1008 (by decide +kernel)
theorem d_1008_557 {σ : Nat → Nat} {n0 : Nat} {bf : ab_B} : decode (ab_code (zx σ n0 bf).1 1008) 557 = .ok (.invokevirtual 162, 3) := zd zm_1008 (by decide +kernel)
theorem d_1008_560 {σ : Nat → Nat} {n0 : Nat} {bf : ab_B} : decode (ab_code (zx σ n0 bf).1 1008) 560 = .ok (.checkcast 91, 3) := zd zm_1008 (by decide +kernel)
theorem d_1008_563 {σ : Nat → Nat} {n0 : Nat} {bf : ab_B} : decode (ab_code (zx σ n0 bf).1 1008) 563 = .ok (.iload_n 2, 1) := zd zm_1008 (by decide +kernel)
theorem d_1008_564 {σ : Nat → Nat} {n0 : Nat} {bf : ab_B} : decode (ab_code (zx σ n0 bf).1 1008) 564 = .ok (.invokevirtual 269, 3) := zd zm_1008 (by decide +kernel)
theorem d_1008_567 {σ : Nat → Nat} {n0 : Nat} {bf : ab_B} : decode (ab_code (zx σ n0 bf).1 1008) 567 = .ok (.goto 301, 3) := zd zm_1008 (by decide +kernel)
theorem d_1008_570 {σ : Nat → Nat} {n0 : Nat} {bf : ab_B} : decode (ab_code (zx σ n0 bf).1 1008) 570 = .ok (.aload_n 0, 1) := zd zm_1008 (by decide +kernel)
theorem d_1008_571 {σ : Nat → Nat} {n0 : Nat} {bf : ab_B} : decode (ab_code (zx σ n0 bf).1 1008) 571 = .ok (.dup, 1) := zd zm_1008 (by decide +kernel)
theorem d_1008_572 {σ : Nat → Nat} {n0 : Nat} {bf : ab_B} : decode (ab_code (zx σ n0 bf).1 1008) 572 = .ok (.getfield 111, 3) := zd zm_1008 (by decide +kernel)
theorem d_1008_575 {σ : Nat → Nat} {n0 : Nat} {bf : ab_B} : decode (ab_code (zx σ n0 bf).1 1008) 575 = .ok (.iconst 1, 1) := zd zm_1008 (by decide +kernel)
theorem d_1008_576 {σ : Nat → Nat} {n0 : Nat} {bf : ab_B} : decode (ab_code (zx σ n0 bf).1 1008) 576 = .ok (.isub, 1) := zd zm_1008 (by decide +kernel)
theorem d_1008_577 {σ : Nat → Nat} {n0 : Nat} {bf : ab_B} : decode (ab_code (zx σ n0 bf).1 1008) 577 = .ok (.putfield 111, 3) := zd zm_1008 (by decide +kernel)
theorem d_1008_580 {σ : Nat → Nat} {n0 : Nat} {bf : ab_B} : decode (ab_code (zx σ n0 bf).1 1008) 580 = .ok (.aload_n 0, 1) := zd zm_1008 (by decide +kernel)
theorem d_1008_581 {σ : Nat → Nat} {n0 : Nat} {bf : ab_B} : decode (ab_code (zx σ n0 bf).1 1008) 581 = .ok (.aload_n 0, 1) := zd zm_1008 (by decide +kernel)
theorem d_1008_582 {σ : Nat → Nat} {n0 : Nat} {bf : ab_B} : decode (ab_code (zx σ n0 bf).1 1008) 582 = .ok (.getfield 10, 3) := zd zm_1008 (by decide +kernel)
theorem d_1008_585 {σ : Nat → Nat} {n0 : Nat} {bf : ab_B} : decode (ab_code (zx σ n0 bf).1 1008) 585 = .ok (.aload_n 0, 1) := zd zm_1008 (by decide +kernel)
theorem d_1008_586 {σ : Nat → Nat} {n0 : Nat} {bf : ab_B} : decode (ab_code (zx σ n0 bf).1 1008) 586 = .ok (.getfield 39, 3) := zd zm_1008 (by decide +kernel)
theorem d_1008_589 {σ : Nat → Nat} {n0 : Nat} {bf : ab_B} : decode (ab_code (zx σ n0 bf).1 1008) 589 = .ok (.aload_n 0, 1) := zd zm_1008 (by decide +kernel)
theorem d_1008_590 {σ : Nat → Nat} {n0 : Nat} {bf : ab_B} : decode (ab_code (zx σ n0 bf).1 1008) 590 = .ok (.getfield 111, 3) := zd zm_1008 (by decide +kernel)
theorem d_1008_593 {σ : Nat → Nat} {n0 : Nat} {bf : ab_B} : decode (ab_code (zx σ n0 bf).1 1008) 593 = .ok (.iaload, 1) := zd zm_1008 (by decide +kernel)
theorem d_1008_594 {σ : Nat → Nat} {n0 : Nat} {bf : ab_B} : decode (ab_code (zx σ n0 bf).1 1008) 594 = .ok (.aload 4, 2) := zd zm_1008 (by decide +kernel)
theorem d_1008_596 {σ : Nat → Nat} {n0 : Nat} {bf : ab_B} : decode (ab_code (zx σ n0 bf).1 1008) 596 = .ok (.iload_n 3, 1) := zd zm_1008 (by decide +kernel)
theorem d_1008_597 {σ : Nat → Nat} {n0 : Nat} {bf : ab_B} : decode (ab_code (zx σ n0 bf).1 1008) 597 = .ok (.iconst 2, 1) := zd zm_1008 (by decide +kernel)
theorem d_1008_598 {σ : Nat → Nat} {n0 : Nat} {bf : ab_B} : decode (ab_code (zx σ n0 bf).1 1008) 598 = .ok (.iadd, 1) := zd zm_1008 (by decide +kernel)
theorem d_1008_599 {σ : Nat → Nat} {n0 : Nat} {bf : ab_B} : decode (ab_code (zx σ n0 bf).1 1008) 599 = .ok (.iaload, 1) := zd zm_1008 (by decide +kernel)
theorem d_1008_600 {σ : Nat → Nat} {n0 : Nat} {bf : ab_B} : decode (ab_code (zx σ n0 bf).1 1008) 600 = .ok (.iadd, 1) := zd zm_1008 (by decide +kernel)
theorem d_1008_601 {σ : Nat → Nat} {n0 : Nat} {bf : ab_B} : decode (ab_code (zx σ n0 bf).1 1008) 601 = .ok (.laload, 1) := zd zm_1008 (by decide +kernel)
theorem d_1008_602 {σ : Nat → Nat} {n0 : Nat} {bf : ab_B} : decode (ab_code (zx σ n0 bf).1 1008) 602 = .ok (.invokevirtual 223, 3) := zd zm_1008 (by decide +kernel)
theorem d_1008_605 {σ : Nat → Nat} {n0 : Nat} {bf : ab_B} : decode (ab_code (zx σ n0 bf).1 1008) 605 = .ok (.goto 263, 3) := zd zm_1008 (by decide +kernel)
theorem d_1008_608 {σ : Nat → Nat} {n0 : Nat} {bf : ab_B} : decode (ab_code (zx σ n0 bf).1 1008) 608 = .ok (.aload_n 0, 1) := zd zm_1008 (by decide +kernel)
theorem d_1008_609 {σ : Nat → Nat} {n0 : Nat} {bf : ab_B} : decode (ab_code (zx σ n0 bf).1 1008) 609 = .ok (.dup, 1) := zd zm_1008 (by decide +kernel)
theorem d_1008_610 {σ : Nat → Nat} {n0 : Nat} {bf : ab_B} : decode (ab_code (zx σ n0 bf).1 1008) 610 = .ok (.getfield 111, 3) := zd zm_1008 (by decide +kernel)
theorem d_1008_613 {σ : Nat → Nat} {n0 : Nat} {bf : ab_B} : decode (ab_code (zx σ n0 bf).1 1008) 613 = .ok (.iconst 2, 1) := zd zm_1008 (by decide +kernel)
theorem d_1008_614 {σ : Nat → Nat} {n0 : Nat} {bf : ab_B} : decode (ab_code (zx σ n0 bf).1 1008) 614 = .ok (.isub, 1) := zd zm_1008 (by decide +kernel)
theorem d_1008_615 {σ : Nat → Nat} {n0 : Nat} {bf : ab_B} : decode (ab_code (zx σ n0 bf).1 1008) 615 = .ok (.putfield 111, 3) := zd zm_1008 (by decide +kernel)
theorem d_1008_618 {σ : Nat → Nat} {n0 : Nat} {bf : ab_B} : decode (ab_code (zx σ n0 bf).1 1008) 618 = .ok (.aload_n 0, 1) := zd zm_1008 (by decide +kernel)
theorem d_1008_619 {σ : Nat → Nat} {n0 : Nat} {bf : ab_B} : decode (ab_code (zx σ n0 bf).1 1008) 619 = .ok (.aload_n 0, 1) := zd zm_1008 (by decide +kernel)
theorem d_1008_620 {σ : Nat → Nat} {n0 : Nat} {bf : ab_B} : decode (ab_code (zx σ n0 bf).1 1008) 620 = .ok (.getfield 36, 3) := zd zm_1008 (by decide +kernel)
theorem d_1008_623 {σ : Nat → Nat} {n0 : Nat} {bf : ab_B} : decode (ab_code (zx σ n0 bf).1 1008) 623 = .ok (.aload_n 0, 1) := zd zm_1008 (by decide +kernel)
theorem d_1008_624 {σ : Nat → Nat} {n0 : Nat} {bf : ab_B} : decode (ab_code (zx σ n0 bf).1 1008) 624 = .ok (.getfield 111, 3) := zd zm_1008 (by decide +kernel)
theorem d_1008_627 {σ : Nat → Nat} {n0 : Nat} {bf : ab_B} : decode (ab_code (zx σ n0 bf).1 1008) 627 = .ok (.laload, 1) := zd zm_1008 (by decide +kernel)
theorem d_1008_628 {σ : Nat → Nat} {n0 : Nat} {bf : ab_B} : decode (ab_code (zx σ n0 bf).1 1008) 628 = .ok (.l2i, 1) := zd zm_1008 (by decide +kernel)
theorem d_1008_629 {σ : Nat → Nat} {n0 : Nat} {bf : ab_B} : decode (ab_code (zx σ n0 bf).1 1008) 629 = .ok (.aload_n 0, 1) := zd zm_1008 (by decide +kernel)
theorem d_1008_630 {σ : Nat → Nat} {n0 : Nat} {bf : ab_B} : decode (ab_code (zx σ n0 bf).1 1008) 630 = .ok (.getfield 39, 3) := zd zm_1008 (by decide +kernel)
theorem d_1008_633 {σ : Nat → Nat} {n0 : Nat} {bf : ab_B} : decode (ab_code (zx σ n0 bf).1 1008) 633 = .ok (.aload_n 0, 1) := zd zm_1008 (by decide +kernel)
theorem d_1008_634 {σ : Nat → Nat} {n0 : Nat} {bf : ab_B} : decode (ab_code (zx σ n0 bf).1 1008) 634 = .ok (.getfield 111, 3) := zd zm_1008 (by decide +kernel)
theorem d_1008_637 {σ : Nat → Nat} {n0 : Nat} {bf : ab_B} : decode (ab_code (zx σ n0 bf).1 1008) 637 = .ok (.iaload, 1) := zd zm_1008 (by decide +kernel)
theorem d_1008_638 {σ : Nat → Nat} {n0 : Nat} {bf : ab_B} : decode (ab_code (zx σ n0 bf).1 1008) 638 = .ok (.aload_n 0, 1) := zd zm_1008 (by decide +kernel)
theorem d_1008_639 {σ : Nat → Nat} {n0 : Nat} {bf : ab_B} : decode (ab_code (zx σ n0 bf).1 1008) 639 = .ok (.getfield 107, 3) := zd zm_1008 (by decide +kernel)
theorem d_1008_642 {σ : Nat → Nat} {n0 : Nat} {bf : ab_B} : decode (ab_code (zx σ n0 bf).1 1008) 642 = .ok (.getfield 239, 3) := zd zm_1008 (by decide +kernel)
theorem d_1008_645 {σ : Nat → Nat} {n0 : Nat} {bf : ab_B} : decode (ab_code (zx σ n0 bf).1 1008) 645 = .ok (.aload 4, 2) := zd zm_1008 (by decide +kernel)
theorem d_1008_647 {σ : Nat → Nat} {n0 : Nat} {bf : ab_B} : decode (ab_code (zx σ n0 bf).1 1008) 647 = .ok (.iload_n 3, 1) := zd zm_1008 (by decide +kernel)
theorem d_1008_648 {σ : Nat → Nat} {n0 : Nat} {bf : ab_B} : decode (ab_code (zx σ n0 bf).1 1008) 648 = .ok (.iconst 2, 1) := zd zm_1008 (by decide +kernel)
theorem d_1008_649 {σ : Nat → Nat} {n0 : Nat} {bf : ab_B} : decode (ab_code (zx σ n0 bf).1 1008) 649 = .ok (.iadd, 1) := zd zm_1008 (by decide +kernel)
theorem d_1008_650 {σ : Nat → Nat} {n0 : Nat} {bf : ab_B} : decode (ab_code (zx σ n0 bf).1 1008) 650 = .ok (.iaload, 1) := zd zm_1008 (by decide +kernel)
theorem d_1008_651 {σ : Nat → Nat} {n0 : Nat} {bf : ab_B} : decode (ab_code (zx σ n0 bf).1 1008) 651 = .ok (.invokevirtual 162, 3) := zd zm_1008 (by decide +kernel)
theorem d_1008_654 {σ : Nat → Nat} {n0 : Nat} {bf : ab_B} : decode (ab_code (zx σ n0 bf).1 1008) 654 = .ok (.checkcast 91, 3) := zd zm_1008 (by decide +kernel)
theorem d_1008_657 {σ : Nat → Nat} {n0 : Nat} {bf : ab_B} : decode (ab_code (zx σ n0 bf).1 1008) 657 = .ok (.aload_n 0, 1) := zd zm_1008 (by decide +kernel)
theorem d_1008_658 {σ : Nat → Nat} {n0 : Nat} {bf : ab_B} : decode (ab_code (zx σ n0 bf).1 1008) 658 = .ok (.getfield 36, 3) := zd zm_1008 (by decide +kernel)
theorem d_1008_661 {σ : Nat → Nat} {n0 : Nat} {bf : ab_B} : decode (ab_code (zx σ n0 bf).1 1008) 661 = .ok (.aload_n 0, 1) := zd zm_1008 (by decide +kernel)
theorem d_1008_662 {σ : Nat → Nat} {n0 : Nat} {bf : ab_B} : decode (ab_code (zx σ n0 bf).1 1008) 662 = .ok (.getfield 111, 3) := zd zm_1008 (by decide +kernel)
theorem d_1008_665 {σ : Nat → Nat} {n0 : Nat} {bf : ab_B} : decode (ab_code (zx σ n0 bf).1 1008) 665 = .ok (.iconst 1, 1) := zd zm_1008 (by decide +kernel)
theorem d_1008_666 {σ : Nat → Nat} {n0 : Nat} {bf : ab_B} : decode (ab_code (zx σ n0 bf).1 1008) 666 = .ok (.iadd, 1) := zd zm_1008 (by decide +kernel)
theorem d_1008_667 {σ : Nat → Nat} {n0 : Nat} {bf : ab_B} : decode (ab_code (zx σ n0 bf).1 1008) 667 = .ok (.laload, 1) := zd zm_1008 (by decide +kernel)
theorem d_1008_668 {σ : Nat → Nat} {n0 : Nat} {bf : ab_B} : decode (ab_code (zx σ n0 bf).1 1008) 668 = .ok (.iload_n 2, 1) := zd zm_1008 (by decide +kernel)
theorem d_1008_669 {σ : Nat → Nat} {n0 : Nat} {bf : ab_B} : decode (ab_code (zx σ n0 bf).1 1008) 669 = .ok (.invokevirtual 273, 3) := zd zm_1008 (by decide +kernel)
theorem d_1008_672 {σ : Nat → Nat} {n0 : Nat} {bf : ab_B} : decode (ab_code (zx σ n0 bf).1 1008) 672 = .ok (.pop, 1) := zd zm_1008 (by decide +kernel)
theorem d_1008_673 {σ : Nat → Nat} {n0 : Nat} {bf : ab_B} : decode (ab_code (zx σ n0 bf).1 1008) 673 = .ok (.goto 195, 3) := zd zm_1008 (by decide +kernel)
theorem d_1008_676 {σ : Nat → Nat} {n0 : Nat} {bf : ab_B} : decode (ab_code (zx σ n0 bf).1 1008) 676 = .ok (.aload_n 0, 1) := zd zm_1008 (by decide +kernel)
theorem d_1008_677 {σ : Nat → Nat} {n0 : Nat} {bf : ab_B} : decode (ab_code (zx σ n0 bf).1 1008) 677 = .ok (.dup, 1) := zd zm_1008 (by decide +kernel)
theorem d_1008_678 {σ : Nat → Nat} {n0 : Nat} {bf : ab_B} : decode (ab_code (zx σ n0 bf).1 1008) 678 = .ok (.getfield 111, 3) := zd zm_1008 (by decide +kernel)
theorem d_1008_681 {σ : Nat → Nat} {n0 : Nat} {bf : ab_B} : decode (ab_code (zx σ n0 bf).1 1008) 681 = .ok (.iconst 1, 1) := zd zm_1008 (by decide +kernel)
theorem d_1008_682 {σ : Nat → Nat} {n0 : Nat} {bf : ab_B} : decode (ab_code (zx σ n0 bf).1 1008) 682 = .ok (.isub, 1) := zd zm_1008 (by decide +kernel)
theorem d_1008_683 {σ : Nat → Nat} {n0 : Nat} {bf : ab_B} : decode (ab_code (zx σ n0 bf).1 1008) 683 = .ok (.putfield 111, 3) := zd zm_1008 (by decide +kernel)
theorem d_1008_686 {σ : Nat → Nat} {n0 : Nat} {bf : ab_B} : decode (ab_code (zx σ n0 bf).1 1008) 686 = .ok (.aload_n 0, 1) := zd zm_1008 (by decide +kernel)
theorem d_1008_687 {σ : Nat → Nat} {n0 : Nat} {bf : ab_B} : decode (ab_code (zx σ n0 bf).1 1008) 687 = .ok (.aload_n 0, 1) := zd zm_1008 (by decide +kernel)
theorem d_1008_688 {σ : Nat → Nat} {n0 : Nat} {bf : ab_B} : decode (ab_code (zx σ n0 bf).1 1008) 688 = .ok (.getfield 36, 3) := zd zm_1008 (by decide +kernel)
theorem d_1008_691 {σ : Nat → Nat} {n0 : Nat} {bf : ab_B} : decode (ab_code (zx σ n0 bf).1 1008) 691 = .ok (.aload_n 0, 1) := zd zm_1008 (by decide +kernel)
theorem d_1008_692 {σ : Nat → Nat} {n0 : Nat} {bf : ab_B} : decode (ab_code (zx σ n0 bf).1 1008) 692 = .ok (.getfield 111, 3) := zd zm_1008 (by decide +kernel)
theorem d_1008_695 {σ : Nat → Nat} {n0 : Nat} {bf : ab_B} : decode (ab_code (zx σ n0 bf).1 1008) 695 = .ok (.laload, 1) := zd zm_1008 (by decide +kernel)
theorem d_1008_696 {σ : Nat → Nat} {n0 : Nat} {bf : ab_B} : decode (ab_code (zx σ n0 bf).1 1008) 696 = .ok (.l2i, 1) := zd zm_1008 (by decide +kernel)
theorem d_1008_697 {σ : Nat → Nat} {n0 : Nat} {bf : ab_B} : decode (ab_code (zx σ n0 bf).1 1008) 697 = .ok (.aload_n 0, 1) := zd zm_1008 (by decide +kernel)
theorem d_1008_698 {σ : Nat → Nat} {n0 : Nat} {bf : ab_B} : decode (ab_code (zx σ n0 bf).1 1008) 698 = .ok (.getfield 39, 3) := zd zm_1008 (by decide +kernel)
theorem d_1008_701 {σ : Nat → Nat} {n0 : Nat} {bf : ab_B} : decode (ab_code (zx σ n0 bf).1 1008) 701 = .ok (.aload_n 0, 1) := zd zm_1008 (by decide +kernel)
theorem d_1008_702 {σ : Nat → Nat} {n0 : Nat} {bf : ab_B} : decode (ab_code (zx σ n0 bf).1 1008) 702 = .ok (.getfield 111, 3) := zd zm_1008 (by decide +kernel)
theorem d_1008_705 {σ : Nat → Nat} {n0 : Nat} {bf : ab_B} : decode (ab_code (zx σ n0 bf).1 1008) 705 = .ok (.iaload, 1) := zd zm_1008 (by decide +kernel)
theorem d_1008_706 {σ : Nat → Nat} {n0 : Nat} {bf : ab_B} : decode (ab_code (zx σ n0 bf).1 1008) 706 = .ok (.aload_n 0, 1) := zd zm_1008 (by decide +kernel)
theorem d_1008_707 {σ : Nat → Nat} {n0 : Nat} {bf : ab_B} : decode (ab_code (zx σ n0 bf).1 1008) 707 = .ok (.getfield 107, 3) := zd zm_1008 (by decide +kernel)
theorem d_1008_710 {σ : Nat → Nat} {n0 : Nat} {bf : ab_B} : decode (ab_code (zx σ n0 bf).1 1008) 710 = .ok (.getfield 239, 3) := zd zm_1008 (by decide +kernel)
theorem d_1008_713 {σ : Nat → Nat} {n0 : Nat} {bf : ab_B} : decode (ab_code (zx σ n0 bf).1 1008) 713 = .ok (.aload 4, 2) := zd zm_1008 (by decide +kernel)
theorem d_1008_715 {σ : Nat → Nat} {n0 : Nat} {bf : ab_B} : decode (ab_code (zx σ n0 bf).1 1008) 715 = .ok (.iload_n 3, 1) := zd zm_1008 (by decide +kernel)
theorem d_1008_716 {σ : Nat → Nat} {n0 : Nat} {bf : ab_B} : decode (ab_code (zx σ n0 bf).1 1008) 716 = .ok (.iconst 2, 1) := zd zm_1008 (by decide +kernel)
theorem d_1008_717 {σ : Nat → Nat} {n0 : Nat} {bf : ab_B} : decode (ab_code (zx σ n0 bf).1 1008) 717 = .ok (.iadd, 1) := zd zm_1008 (by decide +kernel)
theorem d_1008_718 {σ : Nat → Nat} {n0 : Nat} {bf : ab_B} : decode (ab_code (zx σ n0 bf).1 1008) 718 = .ok (.iaload, 1) := zd zm_1008 (by decide +kernel)
theorem d_1008_719 {σ : Nat → Nat} {n0 : Nat} {bf : ab_B} : decode (ab_code (zx σ n0 bf).1 1008) 719 = .ok (.invokevirtual 162, 3) := zd zm_1008 (by decide +kernel)
theorem d_1008_722 {σ : Nat → Nat} {n0 : Nat} {bf : ab_B} : decode (ab_code (zx σ n0 bf).1 1008) 722 = .ok (.checkcast 91, 3) := zd zm_1008 (by decide +kernel)
theorem d_1008_725 {σ : Nat → Nat} {n0 : Nat} {bf : ab_B} : decode (ab_code (zx σ n0 bf).1 1008) 725 = .ok (.iload_n 2, 1) := zd zm_1008 (by decide +kernel)
theorem d_1008_726 {σ : Nat → Nat} {n0 : Nat} {bf : ab_B} : decode (ab_code (zx σ n0 bf).1 1008) 726 = .ok (.invokevirtual 277, 3) := zd zm_1008 (by decide +kernel)
theorem d_1008_729 {σ : Nat → Nat} {n0 : Nat} {bf : ab_B} : decode (ab_code (zx σ n0 bf).1 1008) 729 = .ok (.pop, 1) := zd zm_1008 (by decide +kernel)
theorem d_1008_730 {σ : Nat → Nat} {n0 : Nat} {bf : ab_B} : decode (ab_code (zx σ n0 bf).1 1008) 730 = .ok (.goto 138, 3) := zd zm_1008 (by decide +kernel)
theorem d_1008_733 {σ : Nat → Nat} {n0 : Nat} {bf : ab_B} : decode (ab_code (zx σ n0 bf).1 1008) 733 = .ok (.aload_n 0, 1) := zd zm_1008 (by decide +kernel)
theorem d_1008_734 {σ : Nat → Nat} {n0 : Nat} {bf : ab_B} : decode (ab_code (zx σ n0 bf).1 1008) 734 = .ok (.dup, 1) := zd zm_1008 (by decide +kernel)
theorem d_1008_735 {σ : Nat → Nat} {n0 : Nat} {bf : ab_B} : decode (ab_code (zx σ n0 bf).1 1008) 735 = .ok (.getfield 111, 3) := zd zm_1008 (by decide +kernel)
theorem d_1008_738 {σ : Nat → Nat} {n0 : Nat} {bf : ab_B} : decode (ab_code (zx σ n0 bf).1 1008) 738 = .ok (.iconst 2, 1) := zd zm_1008 (by decide +kernel)
theorem d_1008_739 {σ : Nat → Nat} {n0 : Nat} {bf : ab_B} : decode (ab_code (zx σ n0 bf).1 1008) 739 = .ok (.isub, 1) := zd zm_1008 (by decide +kernel)
theorem d_1008_740 {σ : Nat → Nat} {n0 : Nat} {bf : ab_B} : decode (ab_code (zx σ n0 bf).1 1008) 740 = .ok (.putfield 111, 3) := zd zm_1008 (by decide +kernel)
theorem d_1008_743 {σ : Nat → Nat} {n0 : Nat} {bf : ab_B} : decode (ab_code (zx σ n0 bf).1 1008) 743 = .ok (.aload_n 0, 1) := zd zm_1008 (by decide +kernel)
theorem d_1008_744 {σ : Nat → Nat} {n0 : Nat} {bf : ab_B} : decode (ab_code (zx σ n0 bf).1 1008) 744 = .ok (.aload_n 0, 1) := zd zm_1008 (by decide +kernel)
theorem d_1008_745 {σ : Nat → Nat} {n0 : Nat} {bf : ab_B} : decode (ab_code (zx σ n0 bf).1 1008) 745 = .ok (.getfield 107, 3) := zd zm_1008 (by decide +kernel)
theorem d_1008_748 {σ : Nat → Nat} {n0 : Nat} {bf : ab_B} : decode (ab_code (zx σ n0 bf).1 1008) 748 = .ok (.getfield 239, 3) := zd zm_1008 (by decide +kernel)
theorem d_1008_751 {σ : Nat → Nat} {n0 : Nat} {bf : ab_B} : decode (ab_code (zx σ n0 bf).1 1008) 751 = .ok (.aload 4, 2) := zd zm_1008 (by decide +kernel)
theorem d_1008_753 {σ : Nat → Nat} {n0 : Nat} {bf : ab_B} : decode (ab_code (zx σ n0 bf).1 1008) 753 = .ok (.iload_n 3, 1) := zd zm_1008 (by decide +kernel)
theorem d_1008_754 {σ : Nat → Nat} {n0 : Nat} {bf : ab_B} : decode (ab_code (zx σ n0 bf).1 1008) 754 = .ok (.iconst 2, 1) := zd zm_1008 (by decide +kernel)
theorem d_1008_755 {σ : Nat → Nat} {n0 : Nat} {bf : ab_B} : decode (ab_code (zx σ n0 bf).1 1008) 755 = .ok (.iadd, 1) := zd zm_1008 (by decide +kernel)
theorem d_1008_756 {σ : Nat → Nat} {n0 : Nat} {bf : ab_B} : decode (ab_code (zx σ n0 bf).1 1008) 756 = .ok (.iaload, 1) := zd zm_1008 (by decide +kernel)
theorem d_1008_757 {σ : Nat → Nat} {n0 : Nat} {bf : ab_B} : decode (ab_code (zx σ n0 bf).1 1008) 757 = .ok (.invokevirtual 162, 3) := zd zm_1008 (by decide +kernel)
theorem d_1008_760 {σ : Nat → Nat} {n0 : Nat} {bf : ab_B} : decode (ab_code (zx σ n0 bf).1 1008) 760 = .ok (.checkcast 91, 3) := zd zm_1008 (by decide +kernel)
theorem d_1008_763 {σ : Nat → Nat} {n0 : Nat} {bf : ab_B} : decode (ab_code (zx σ n0 bf).1 1008) 763 = .ok (.aload_n 0, 1) := zd zm_1008 (by decide +kernel)
theorem d_1008_764 {σ : Nat → Nat} {n0 : Nat} {bf : ab_B} : decode (ab_code (zx σ n0 bf).1 1008) 764 = .ok (.getfield 107, 3) := zd zm_1008 (by decide +kernel)
theorem d_1008_767 {σ : Nat → Nat} {n0 : Nat} {bf : ab_B} : decode (ab_code (zx σ n0 bf).1 1008) 767 = .ok (.getfield 250, 3) := zd zm_1008 (by decide +kernel)
theorem d_1008_770 {σ : Nat → Nat} {n0 : Nat} {bf : ab_B} : decode (ab_code (zx σ n0 bf).1 1008) 770 = .ok (.aload 4, 2) := zd zm_1008 (by decide +kernel)
theorem d_1008_772 {σ : Nat → Nat} {n0 : Nat} {bf : ab_B} : decode (ab_code (zx σ n0 bf).1 1008) 772 = .ok (.iload_n 3, 1) := zd zm_1008 (by decide +kernel)
theorem d_1008_773 {σ : Nat → Nat} {n0 : Nat} {bf : ab_B} : decode (ab_code (zx σ n0 bf).1 1008) 773 = .ok (.iconst 3, 1) := zd zm_1008 (by decide +kernel)
theorem d_1008_774 {σ : Nat → Nat} {n0 : Nat} {bf : ab_B} : decode (ab_code (zx σ n0 bf).1 1008) 774 = .ok (.iadd, 1) := zd zm_1008 (by decide +kernel)
theorem d_1008_775 {σ : Nat → Nat} {n0 : Nat} {bf : ab_B} : decode (ab_code (zx σ n0 bf).1 1008) 775 = .ok (.iaload, 1) := zd zm_1008 (by decide +kernel)
theorem d_1008_776 {σ : Nat → Nat} {n0 : Nat} {bf : ab_B} : decode (ab_code (zx σ n0 bf).1 1008) 776 = .ok (.invokevirtual 162, 3) := zd zm_1008 (by decide +kernel)
theorem d_1008_779 {σ : Nat → Nat} {n0 : Nat} {bf : ab_B} : decode (ab_code (zx σ n0 bf).1 1008) 779 = .ok (.checkcast 252, 3) := zd zm_1008 (by decide +kernel)
theorem d_1008_782 {σ : Nat → Nat} {n0 : Nat} {bf : ab_B} : decode (ab_code (zx σ n0 bf).1 1008) 782 = .ok (.getfield 281, 3) := zd zm_1008 (by decide +kernel)
theorem d_1008_785 {σ : Nat → Nat} {n0 : Nat} {bf : ab_B} : decode (ab_code (zx σ n0 bf).1 1008) 785 = .ok (.iload_n 2, 1) := zd zm_1008 (by decide +kernel)
theorem d_1008_786 {σ : Nat → Nat} {n0 : Nat} {bf : ab_B} : decode (ab_code (zx σ n0 bf).1 1008) 786 = .ok (.invokevirtual 285, 3) := zd zm_1008 (by decide +kernel)
theorem d_1008_789 {σ : Nat → Nat} {n0 : Nat} {bf : ab_B} : decode (ab_code (zx σ n0 bf).1 1008) 789 = .ok (.goto 79, 3) := zd zm_1008 (by decide +kernel)
theorem d_1008_792 {σ : Nat → Nat} {n0 : Nat} {bf : ab_B} : decode (ab_code (zx σ n0 bf).1 1008) 792 = .ok (.aload_n 0, 1) := zd zm_1008 (by decide +kernel)
theorem d_1008_793 {σ : Nat → Nat} {n0 : Nat} {bf : ab_B} : decode (ab_code (zx σ n0 bf).1 1008) 793 = .ok (.aload_n 0, 1) := zd zm_1008 (by decide +kernel)
theorem d_1008_794 {σ : Nat → Nat} {n0 : Nat} {bf : ab_B} : decode (ab_code (zx σ n0 bf).1 1008) 794 = .ok (.getfield 107, 3) := zd zm_1008 (by decide +kernel)
theorem d_1008_797 {σ : Nat → Nat} {n0 : Nat} {bf : ab_B} : decode (ab_code (zx σ n0 bf).1 1008) 797 = .ok (.getfield 239, 3) := zd zm_1008 (by decide +kernel)
theorem d_1008_800 {σ : Nat → Nat} {n0 : Nat} {bf : ab_B} : decode (ab_code (zx σ n0 bf).1 1008) 800 = .ok (.aload 4, 2) := zd zm_1008 (by decide +kernel)
theorem d_1008_802 {σ : Nat → Nat} {n0 : Nat} {bf : ab_B} : decode (ab_code (zx σ n0 bf).1 1008) 802 = .ok (.iload_n 3, 1) := zd zm_1008 (by decide +kernel)
theorem d_1008_803 {σ : Nat → Nat} {n0 : Nat} {bf : ab_B} : decode (ab_code (zx σ n0 bf).1 1008) 803 = .ok (.iconst 2, 1) := zd zm_1008 (by decide +kernel)
theorem d_1008_804 {σ : Nat → Nat} {n0 : Nat} {bf : ab_B} : decode (ab_code (zx σ n0 bf).1 1008) 804 = .ok (.iadd, 1) := zd zm_1008 (by decide +kernel)
theorem d_1008_805 {σ : Nat → Nat} {n0 : Nat} {bf : ab_B} : decode (ab_code (zx σ n0 bf).1 1008) 805 = .ok (.iaload, 1) := zd zm_1008 (by decide +kernel)
theorem d_1008_806 {σ : Nat → Nat} {n0 : Nat} {bf : ab_B} : decode (ab_code (zx σ n0 bf).1 1008) 806 = .ok (.invokevirtual 162, 3) := zd zm_1008 (by decide +kernel)
theorem d_1008_809 {σ : Nat → Nat} {n0 : Nat} {bf : ab_B} : decode (ab_code (zx σ n0 bf).1 1008) 809 = .ok (.checkcast 91, 3) := zd zm_1008 (by decide +kernel)
theorem d_1008_812 {σ : Nat → Nat} {n0 : Nat} {bf : ab_B} : decode (ab_code (zx σ n0 bf).1 1008) 812 = .ok (.iload_n 2, 1) := zd zm_1008 (by decide +kernel)
theorem d_1008_813 {σ : Nat → Nat} {n0 : Nat} {bf : ab_B} : decode (ab_code (zx σ n0 bf).1 1008) 813 = .ok (.invokevirtual 289, 3) := zd zm_1008 (by decide +kernel)
theorem d_1008_816 {σ : Nat → Nat} {n0 : Nat} {bf : ab_B} : decode (ab_code (zx σ n0 bf).1 1008) 816 = .ok (.goto 52, 3) := zd zm_1008 (by decide +kernel)
theorem d_1008_819 {σ : Nat → Nat} {n0 : Nat} {bf : ab_B} : decode (ab_code (zx σ n0 bf).1 1008) 819 = .ok (.aload_n 0, 1) := zd zm_1008 (by decide +kernel)
theorem d_1008_820 {σ : Nat → Nat} {n0 : Nat} {bf : ab_B} : decode (ab_code (zx σ n0 bf).1 1008) 820 = .ok (.dup, 1) := zd zm_1008 (by decide +kernel)
theorem d_1008_821 {σ : Nat → Nat} {n0 : Nat} {bf : ab_B} : decode (ab_code (zx σ n0 bf).1 1008) 821 = .ok (.getfield 111, 3) := zd zm_1008 (by decide +kernel)
theorem d_1008_824 {σ : Nat → Nat} {n0 : Nat} {bf : ab_B} : decode (ab_code (zx σ n0 bf).1 1008) 824 = .ok (.iconst 1, 1) := zd zm_1008 (by decide +kernel)
theorem d_1008_825 {σ : Nat → Nat} {n0 : Nat} {bf : ab_B} : decode (ab_code (zx σ n0 bf).1 1008) 825 = .ok (.isub, 1) := zd zm_1008 (by decide +kernel)
theorem d_1008_826 {σ : Nat → Nat} {n0 : Nat} {bf : ab_B} : decode (ab_code (zx σ n0 bf).1 1008) 826 = .ok (.putfield 111, 3) := zd zm_1008 (by decide +kernel)
theorem d_1008_829 {σ : Nat → Nat} {n0 : Nat} {bf : ab_B} : decode (ab_code (zx σ n0 bf).1 1008) 829 = .ok (.aload_n 0, 1) := zd zm_1008 (by decide +kernel)
theorem d_1008_830 {σ : Nat → Nat} {n0 : Nat} {bf : ab_B} : decode (ab_code (zx σ n0 bf).1 1008) 830 = .ok (.aload_n 0, 1) := zd zm_1008 (by decide +kernel)
theorem d_1008_831 {σ : Nat → Nat} {n0 : Nat} {bf : ab_B} : decode (ab_code (zx σ n0 bf).1 1008) 831 = .ok (.getfield 70, 3) := zd zm_1008 (by decide +kernel)
theorem d_1008_834 {σ : Nat → Nat} {n0 : Nat} {bf : ab_B} : decode (ab_code (zx σ n0 bf).1 1008) 834 = .ok (.aload_n 0, 1) := zd zm_1008 (by decide +kernel)
theorem d_1008_835 {σ : Nat → Nat} {n0 : Nat} {bf : ab_B} : decode (ab_code (zx σ n0 bf).1 1008) 835 = .ok (.getfield 129, 3) := zd zm_1008 (by decide +kernel)
theorem d_1008_838 {σ : Nat → Nat} {n0 : Nat} {bf : ab_B} : decode (ab_code (zx σ n0 bf).1 1008) 838 = .ok (.iaload, 1) := zd zm_1008 (by decide +kernel)
theorem d_1008_839 {σ : Nat → Nat} {n0 : Nat} {bf : ab_B} : decode (ab_code (zx σ n0 bf).1 1008) 839 = .ok (.aload 4, 2) := zd zm_1008 (by decide +kernel)
theorem d_1008_841 {σ : Nat → Nat} {n0 : Nat} {bf : ab_B} : decode (ab_code (zx σ n0 bf).1 1008) 841 = .ok (.iload_n 3, 1) := zd zm_1008 (by decide +kernel)
theorem d_1008_842 {σ : Nat → Nat} {n0 : Nat} {bf : ab_B} : decode (ab_code (zx σ n0 bf).1 1008) 842 = .ok (.iconst 2, 1) := zd zm_1008 (by decide +kernel)
theorem d_1008_843 {σ : Nat → Nat} {n0 : Nat} {bf : ab_B} : decode (ab_code (zx σ n0 bf).1 1008) 843 = .ok (.iadd, 1) := zd zm_1008 (by decide +kernel)
theorem d_1008_844 {σ : Nat → Nat} {n0 : Nat} {bf : ab_B} : decode (ab_code (zx σ n0 bf).1 1008) 844 = .ok (.iaload, 1) := zd zm_1008 (by decide +kernel)
theorem d_1008_845 {σ : Nat → Nat} {n0 : Nat} {bf : ab_B} : decode (ab_code (zx σ n0 bf).1 1008) 845 = .ok (.iadd, 1) := zd zm_1008 (by decide +kernel)
theorem d_1008_846 {σ : Nat → Nat} {n0 : Nat} {bf : ab_B} : decode (ab_code (zx σ n0 bf).1 1008) 846 = .ok (.aload_n 0, 1) := zd zm_1008 (by decide +kernel)
theorem d_1008_847 {σ : Nat → Nat} {n0 : Nat} {bf : ab_B} : decode (ab_code (zx σ n0 bf).1 1008) 847 = .ok (.getfield 36, 3) := zd zm_1008 (by decide +kernel)
theorem d_1008_850 {σ : Nat → Nat} {n0 : Nat} {bf : ab_B} : decode (ab_code (zx σ n0 bf).1 1008) 850 = .ok (.aload_n 0, 1) := zd zm_1008 (by decide +kernel)
theorem d_1008_851 {σ : Nat → Nat} {n0 : Nat} {bf : ab_B} : decode (ab_code (zx σ n0 bf).1 1008) 851 = .ok (.getfield 111, 3) := zd zm_1008 (by decide +kernel)
theorem d_1008_854 {σ : Nat → Nat} {n0 : Nat} {bf : ab_B} : decode (ab_code (zx σ n0 bf).1 1008) 854 = .ok (.laload, 1) := zd zm_1008 (by decide +kernel)
theorem d_1008_855 {σ : Nat → Nat} {n0 : Nat} {bf : ab_B} : decode (ab_code (zx σ n0 bf).1 1008) 855 = .ok (.l2i, 1) := zd zm_1008 (by decide +kernel)
theorem d_1008_856 {σ : Nat → Nat} {n0 : Nat} {bf : ab_B} : decode (ab_code (zx σ n0 bf).1 1008) 856 = .ok (.aload_n 0, 1) := zd zm_1008 (by decide +kernel)
theorem d_1008_857 {σ : Nat → Nat} {n0 : Nat} {bf : ab_B} : decode (ab_code (zx σ n0 bf).1 1008) 857 = .ok (.getfield 39, 3) := zd zm_1008 (by decide +kernel)
theorem d_1008_860 {σ : Nat → Nat} {n0 : Nat} {bf : ab_B} : decode (ab_code (zx σ n0 bf).1 1008) 860 = .ok (.aload_n 0, 1) := zd zm_1008 (by decide +kernel)
theorem d_1008_861 {σ : Nat → Nat} {n0 : Nat} {bf : ab_B} : decode (ab_code (zx σ n0 bf).1 1008) 861 = .ok (.getfield 111, 3) := zd zm_1008 (by decide +kernel)
theorem d_1008_864 {σ : Nat → Nat} {n0 : Nat} {bf : ab_B} : decode (ab_code (zx σ n0 bf).1 1008) 864 = .ok (.iaload, 1) := zd zm_1008 (by decide +kernel)
theorem d_1008_865 {σ : Nat → Nat} {n0 : Nat} {bf : ab_B} : decode (ab_code (zx σ n0 bf).1 1008) 865 = .ok (.invokevirtual 292, 3) := zd zm_1008 (by decide +kernel)
theorem d_1008_868 {σ : Nat → Nat} {n0 : Nat} {bf : ab_B} : decode (ab_code (zx σ n0 bf).1 1008) 868 = .ok (.return_, 1) := zd zm_1008 (by decide +kernel)
def w_X2_move_868 (X : zs_X) (d : Nat)  (S : zs_T) (Q : zs_Q) : Prop :=
  (Q (.returned none) S)
theorem u_X2_move_868 {σ : Nat → Nat} {n0 : Nat} {bf : ab_B} {d : Nat}  {S : zs_T} {Q : zs_Q} (hB : zt_B bf) (h : w_X2_move_868 (zx σ n0 bf) d  S Q) : zs_U (zx σ n0 bf) d 1008 868 [] [] S Q := by
  unfold w_X2_move_868 at h
  exact zu_vret d_1008_868 zr_1008 h
def w_X2_move_104 (X : zs_X) (d : Nat) (p0 : Nat) (p2 : Int32) (S : zs_T) (Q : zs_Q) : Prop :=
  (zs_K S p0 = some (.inl 1) ∧ ∃ b2, (zs_R S 1024 p0) = some b2 ∧ zs_A S b2 0 (zs_I S 1025 p0) ∧ ab_n0 X.1 ≤ b2 ∧ ∀ S6, S6 = zs_si S b2 (zs_I S 1025 p0).toNatClampNeg p2 → w_X2_move_868 X d  S6 Q)
theorem u_X2_move_104 {σ : Nat → Nat} {n0 : Nat} {bf : ab_B} {d : Nat} {p0 : Nat} {p2 : Int32} {S : zs_T} {Q : zs_Q} (hB : zt_B bf) (h : w_X2_move_104 (zx σ n0 bf) d p0 p2 S Q) : zs_U (zx σ n0 bf) d 1008 104 [(0, .ref p0), (2, .int p2)] [] S Q := by
  unfold w_X2_move_104 at h
  refine zu_aload_n d_1008_104 rfl (zs_ra _) ?_
  obtain ⟨k1, h⟩ := h
  refine zg_1_79 rfl d_1008_105 k1 ?_
  refine zu_aload_n d_1008_108 rfl (zs_ra _) ?_
  refine zg_1_129 rfl d_1008_109 k1 ?_
  refine zu_iload_n d_1008_112 rfl ?_
  obtain ⟨b2, e3, h⟩ := h
  refine zs_stk2 (zs_rfe e3) ?_
  obtain ⟨k4, h⟩ := h
  obtain ⟨k5, h⟩ := h
  refine zu_iast (k := 0) d_1008_113 rfl rfl k5 k4 ?_
  generalize e7 : zs_si S b2 (zs_I S 1025 p0).toNatClampNeg p2 = S6
  have h := h S6 e7.symm
  have K8 : ∀ b, zs_K S6 b = zs_K S b := zs_Kt e7 (zs_Ksi _ _ _ _) (fun _ => rfl)
  refine zu_goto (t := 868) d_1008_114 rfl ?_
  exact (u_X2_move_868 hB h).weak trivial
def w_X2_move_152 (X : zs_X) (d : Nat)  (S : zs_T) (Q : zs_Q) : Prop :=
  (Q (.returned none) S)
theorem u_X2_move_152 {σ : Nat → Nat} {n0 : Nat} {bf : ab_B} {d : Nat}  {S : zs_T} {Q : zs_Q} (hB : zt_B bf) (h : w_X2_move_152 (zx σ n0 bf) d  S Q) : zs_U (zx σ n0 bf) d 1008 152 [] [] S Q := by
  unfold w_X2_move_152 at h
  exact zu_vret d_1008_152 zr_1008 h
def w_X2_move_153 (X : zs_X) (d : Nat) (p0 : Nat) (p3 : Int32) (p4 : Option Nat) (S : zs_T) (Q : zs_Q) : Prop :=
  (∃ b1, p4 = some b1 ∧ zs_A S b1 0 (p3 + (2 : Int32)) ∧ zs_U X d 1008 161 [(0, .ref p0), (3, .int p3), (4, va_rf p4), (5, .int (zs_i S b1 (p3 + (2 : Int32)).toNatClampNeg))] [] S Q)
theorem u_X2_move_153 {σ : Nat → Nat} {n0 : Nat} {bf : ab_B} {d : Nat} {p0 : Nat} {p3 : Int32} {p4 : Option Nat} {S : zs_T} {Q : zs_Q} (hB : zt_B bf) (h : w_X2_move_153 (zx σ n0 bf) d p0 p3 p4 S Q) : zs_U (zx σ n0 bf) d 1008 153 [(0, .ref p0), (3, .int p3), (4, va_rf p4)] [] S Q := by
  unfold w_X2_move_153 at h
  refine zu_aload d_1008_153 rfl (zs_rr _) ?_
  refine zu_iload_n d_1008_155 rfl ?_
  refine zu_iconst d_1008_156 zi_2 ?_
  refine zu_stk d_1008_157 rfl rfl ?_
  obtain ⟨b1, e2, h⟩ := h
  refine zs_stk1 (zs_rfe e2) ?_
  obtain ⟨k3, h⟩ := h
  refine zu_iald (k := 0) d_1008_158 rfl rfl k3 ?_
  refine zu_istore d_1008_159 (zs_lt zq_1008 rfl) ?_
  refine zs_U.weak (L1 := [(5, .int (zs_i S b1 (p3 + (2 : Int32)).toNatClampNeg)), (0, .ref p0), (3, .int p3), (4, va_rf p4)]) ?_ ⟨rfl, zs_gp1 rfl (Or.inl rfl) rfl, zs_gp1 rfl (Or.inl rfl) rfl, zs_gp1 rfl (Or.inl (zs_cat _)) rfl, trivial⟩
  exact h.weak ⟨rfl, rfl, rfl, rfl, trivial⟩
def w_X2_move_198 (X : zs_X) (d : Nat) (p0 : Nat) (p3 : Int32) (p4 : Option Nat) (p5 : Int32) (S : zs_T) (Q : zs_Q) : Prop :=
  (zs_U X d 1008 161 [(0, .ref p0), (3, .int p3), (4, va_rf p4), (5, .int (p5 + (1 : Int32)))] [] S Q)
theorem u_X2_move_198 {σ : Nat → Nat} {n0 : Nat} {bf : ab_B} {d : Nat} {p0 : Nat} {p3 : Int32} {p4 : Option Nat} {p5 : Int32} {S : zs_T} {Q : zs_Q} (hB : zt_B bf) (h : w_X2_move_198 (zx σ n0 bf) d p0 p3 p4 p5 S Q) : zs_U (zx σ n0 bf) d 1008 198 [(0, .ref p0), (3, .int p3), (4, va_rf p4), (5, .int p5)] [] S Q := by
  unfold w_X2_move_198 at h
  refine zu_iinc d_1008_198 rfl zi_1 (zs_lt zq_1008 rfl) ?_
  refine zs_U.weak (L1 := [(5, .int (p5 + (1 : Int32))), (0, .ref p0), (3, .int p3), (4, va_rf p4)]) ?_ ⟨rfl, zs_gp1 rfl (Or.inl rfl) rfl, zs_gp1 rfl (Or.inl rfl) rfl, zs_gp1 rfl (Or.inl (zs_cat _)) rfl, trivial⟩
  refine zu_goto (t := 161) d_1008_201 rfl ?_
  exact h.weak ⟨rfl, rfl, rfl, rfl, trivial⟩
def w_X2_move_161 (X : zs_X) (d : Nat) (p0 : Nat) (p3 : Int32) (p4 : Option Nat) (p5 : Int32) (S : zs_T) (Q : zs_Q) : Prop :=
  (∃ b1, p4 = some b1 ∧ zs_A S b1 0 (p3 + (3 : Int32)) ∧ (((zs_i S b1 (p3 + (3 : Int32)).toNatClampNeg) ≤ p5 → (w_X2_move_868 X d  S Q)) ∧ (¬ ((zs_i S b1 (p3 + (3 : Int32)).toNatClampNeg) ≤ p5) → (zs_K S p0 = some (.inl 1) ∧ ab_n0 X.1 ≤ p0 ∧ ∀ S7, S7 = zs_sI S 1011 p0 ((zs_I S 1011 p0) + (1 : Int32)) → ∃ b10, (zs_R S7 1000 p0) = some b10 ∧ zs_K S b10 = some (.inl 3) ∧ ∃ b13, (zs_R S7 3005 b10) = some b13 ∧ zs_A S b13 1 p5 ∧ ∃ b16, (zs_R S 1008 p0) = some b16 ∧ zs_A S b16 1 (zs_I S 1011 p0) ∧ ab_n0 X.1 ≤ b16 ∧ ∀ S20, S20 = zs_si S7 b16 (zs_I S 1011 p0).toNatClampNeg (vp_nar .byte (zs_i S7 b13 p5.toNatClampNeg)) → w_X2_move_198 X d p0 p3 p4 p5 S20 Q))))
theorem u_X2_move_161 {σ : Nat → Nat} {n0 : Nat} {bf : ab_B} {d : Nat} {p0 : Nat} {p3 : Int32} {p4 : Option Nat} {p5 : Int32} {S : zs_T} {Q : zs_Q} (hB : zt_B bf) (h : w_X2_move_161 (zx σ n0 bf) d p0 p3 p4 p5 S Q) : zs_U (zx σ n0 bf) d 1008 161 [(0, .ref p0), (3, .int p3), (4, va_rf p4), (5, .int p5)] [] S Q := by
  unfold w_X2_move_161 at h
  refine zu_iload d_1008_161 rfl ?_
  refine zu_aload d_1008_163 rfl (zs_rr _) ?_
  refine zu_iload_n d_1008_165 rfl ?_
  refine zu_iconst d_1008_166 zi_3 ?_
  refine zu_stk d_1008_167 rfl rfl ?_
  obtain ⟨b1, e2, h⟩ := h
  refine zs_stk1 (zs_rfe e2) ?_
  obtain ⟨k3, h⟩ := h
  refine zu_iald (k := 0) d_1008_168 rfl rfl k3 ?_
  refine zu_cmpge (t := 204) d_1008_169 rfl (fun c4 => ?_) (fun c4 => ?_)
  · have h := h.1 c4
    refine zu_goto (t := 868) d_1008_204 rfl ?_
    exact (u_X2_move_868 hB h).weak trivial
  · have h := h.2 c4
    refine zu_aload_n d_1008_172 rfl (zs_ra _) ?_
    obtain ⟨k5, h⟩ := h
    refine zg_1_42 rfl d_1008_173 k5 ?_
    refine zu_aload_n d_1008_176 rfl (zs_ra _) ?_
    refine zu_dup d_1008_177 rfl ?_
    refine zg_1_117 rfl d_1008_178 k5 ?_
    refine zu_dup_x1 d_1008_181 rfl rfl ?_
    refine zu_iconst d_1008_182 zi_1 ?_
    refine zu_stk d_1008_183 rfl rfl ?_
    obtain ⟨k6, h⟩ := h
    refine zp_1_117 (v := ((zs_I S 1011 p0) + (1 : Int32))) rfl d_1008_184 k5 k6 ?_
    generalize e8 : zs_sI S 1011 p0 ((zs_I S 1011 p0) + (1 : Int32)) = S7
    have h := h S7 e8.symm
    have K9 : ∀ b, zs_K S7 b = zs_K S b := zs_Kt e8 (zs_KsI _ _ _ _) (fun _ => rfl)
    refine zu_aload_n d_1008_187 rfl (zs_ra _) ?_
    refine zg_1_107 rfl d_1008_188 ((K9 _).trans k5) ?_
    obtain ⟨b10, e11, h⟩ := h
    refine zs_stk0 (zs_rfe e11) ?_
    obtain ⟨k12, h⟩ := h
    refine zg_1_230 rfl d_1008_191 ((K9 _).trans k12) ?_
    refine zu_iload d_1008_194 rfl ?_
    obtain ⟨b13, e14, h⟩ := h
    refine zs_stk1 (zs_rfe e14) ?_
    obtain ⟨k15, h⟩ := h
    refine zu_bald (k := 1) d_1008_196 rfl (Or.inl rfl) (zs_Ak K9 k15) ?_
    obtain ⟨b16, e17, h⟩ := h
    refine zs_stk2 (zs_rfe e17) ?_
    obtain ⟨k18, h⟩ := h
    obtain ⟨k19, h⟩ := h
    refine zu_bast_byte (k := 1) d_1008_197 rfl rfl k19 (zs_Ak K9 k18) ?_
    generalize e21 : zs_si S7 b16 (zs_I S 1011 p0).toNatClampNeg (vp_nar .byte (zs_i S7 b13 p5.toNatClampNeg)) = S20
    have h := h S20 e21.symm
    have K22 : ∀ b, zs_K S20 b = zs_K S b := zs_Kt e21 (zs_Ksi _ _ _ _) K9
    exact (u_X2_move_198 hB h).weak ⟨rfl, rfl, rfl, rfl, trivial⟩
def w_X2_move_265 (X : zs_X) (d : Nat)  (S : zs_T) (Q : zs_Q) : Prop :=
  (w_X2_move_868 X d  S Q)
theorem u_X2_move_265 {σ : Nat → Nat} {n0 : Nat} {bf : ab_B} {d : Nat}  {S : zs_T} {Q : zs_Q} (hB : zt_B bf) (h : w_X2_move_265 (zx σ n0 bf) d  S Q) : zs_U (zx σ n0 bf) d 1008 265 [] [] S Q := by
  unfold w_X2_move_265 at h
  refine zu_goto (t := 868) d_1008_265 rfl ?_
  exact (u_X2_move_868 hB h).weak trivial
def w_X2_move_225 (X : zs_X) (d : Nat) (p0 : Nat) (p2 : Int32) (p5 : Int32) (S : zs_T) (Q : zs_Q) : Prop :=
  (zs_K S p0 = some (.inl 1) ∧ ∃ b2, (zs_R S 1012 p0) = some b2 ∧ zs_A S b2 0 p5 ∧ ((¬ (zs_i S b2 p5.toNatClampNeg) = (-1 : Int32) → (∃ b6, (zs_R S 1013 p0) = some b6 ∧ zs_A S b6 0 p5 ∧ zs_C X d 1012 [.ref p0, .long (((zs_i S b2 p5.toNatClampNeg)).toInt64), .int (zs_i S b6 p5.toNatClampNeg)] S (zs_kV (fun S9 => w_X2_move_265 X d  S9 Q) Q))) ∧ (¬ (¬ (zs_i S b2 p5.toNatClampNeg) = (-1 : Int32)) → (zs_C X d 1004 [.ref p0, .int (1 : Int32), .int p2] S (zs_kI (fun v12 S11 => (w_X2_move_868 X d  S11 Q)) Q)))))
theorem u_X2_move_225 {σ : Nat → Nat} {n0 : Nat} {bf : ab_B} {d : Nat} {p0 : Nat} {p2 : Int32} {p5 : Int32} {S : zs_T} {Q : zs_Q} (hB : zt_B bf) (h : w_X2_move_225 (zx σ n0 bf) d p0 p2 p5 S Q) : zs_U (zx σ n0 bf) d 1008 225 [(0, .ref p0), (2, .int p2), (5, .int p5)] [] S Q := by
  unfold w_X2_move_225 at h
  refine zu_aload_n d_1008_225 rfl (zs_ra _) ?_
  obtain ⟨k1, h⟩ := h
  refine zg_1_49 rfl d_1008_226 k1 ?_
  refine zu_iload d_1008_229 rfl ?_
  obtain ⟨b2, e3, h⟩ := h
  refine zs_stk1 (zs_rfe e3) ?_
  obtain ⟨k4, h⟩ := h
  refine zu_iald (k := 0) d_1008_231 rfl rfl k4 ?_
  refine zu_iconst d_1008_232 zi_m1 ?_
  refine zu_cmpne (t := 246) d_1008_233 rfl (fun c5 => ?_) (fun c5 => ?_)
  · have h := h.1 c5
    refine zu_aload_n d_1008_246 rfl (zs_ra _) ?_
    refine zu_aload_n d_1008_247 rfl (zs_ra _) ?_
    refine zg_1_49 rfl d_1008_248 k1 ?_
    refine zu_iload d_1008_251 rfl ?_
    refine zs_stk1 (zs_rfe e3) ?_
    refine zu_iald (k := 0) d_1008_253 rfl rfl k4 ?_
    refine zu_stk d_1008_254 rfl rfl ?_
    refine zu_aload_n d_1008_255 rfl (zs_ra _) ?_
    refine zg_1_52 rfl d_1008_256 k1 ?_
    refine zu_iload d_1008_259 rfl ?_
    obtain ⟨b6, e7, h⟩ := h
    refine zs_stk1 (zs_rfe e7) ?_
    obtain ⟨k8, h⟩ := h
    refine zu_iald (k := 0) d_1008_261 rfl rfl k8 ?_
    refine zc_1_235 (x0 := (((zs_i S b2 p5.toNatClampNeg)).toInt64)) (x1 := (zs_i S b6 p5.toNatClampNeg)) hB rfl k1 d_1008_262 (Nat.le_of_ble_eq_true rfl) h (fun S9 h => ?_)
    exact (u_X2_move_265 hB h).weak trivial
  · have h := h.2 c5
    refine zu_aload_n d_1008_236 rfl (zs_ra _) ?_
    refine zu_iconst d_1008_237 zi_1 ?_
    refine zu_iload_n d_1008_238 rfl ?_
    refine zc_1_194 (x0 := (1 : Int32)) (x1 := p2) hB rfl k1 d_1008_239 (Nat.le_of_ble_eq_true rfl) h (fun v12 S11 h => ?_)
    refine zu_pop d_1008_242 rfl ?_
    refine zu_goto (t := 868) d_1008_243 rfl ?_
    exact (u_X2_move_868 hB h).weak trivial
def w_X2_move_292 (X : zs_X) (d : Nat)  (S : zs_T) (Q : zs_Q) : Prop :=
  (w_X2_move_868 X d  S Q)
theorem u_X2_move_292 {σ : Nat → Nat} {n0 : Nat} {bf : ab_B} {d : Nat}  {S : zs_T} {Q : zs_Q} (hB : zt_B bf) (h : w_X2_move_292 (zx σ n0 bf) d  S Q) : zs_U (zx σ n0 bf) d 1008 292 [] [] S Q := by
  unfold w_X2_move_292 at h
  refine zu_goto (t := 868) d_1008_292 rfl ?_
  exact (u_X2_move_868 hB h).weak trivial
def w_X2_move_316 (X : zs_X) (d : Nat) (p0 : Nat) (p2 : Int32) (p3 : Int32) (p4 : Option Nat) (p6 : Option Nat) (S : zs_T) (Q : zs_Q) : Prop :=
  (∃ b1, p6 = some b1 ∧ zs_K S b1 = some (.inl 6) ∧ zs_K S p0 = some (.inl 1) ∧ ∃ b5, (zs_R S 1000 p0) = some b5 ∧ zs_K S b5 = some (.inl 3) ∧ ∃ b8, p4 = some b8 ∧ zs_A S b8 0 (p3 + (3 : Int32)) ∧ ∃ b11, (zs_R S 3003 b5) = some b11 ∧ zs_K S b11 = some (.inl 16) ∧ zs_C X d 16009 [.ref b11, .int (zs_i S b8 (p3 + (3 : Int32)).toNatClampNeg)] S (zs_kR (fun v15 S14 => ((∀ a, v15 = some a → zs_K S14 a = some (.inl 12)) ∧ zs_K S14 p0 = some (.inl 1) ∧ zs_C X d 1014 [.ref p0, va_rf (zs_R S 6006 b1), va_rf v15, .int p2] S14 (zs_kV (fun S18 => (w_X2_move_868 X d  S18 Q)) Q))) Q))
theorem u_X2_move_316 {σ : Nat → Nat} {n0 : Nat} {bf : ab_B} {d : Nat} {p0 : Nat} {p2 : Int32} {p3 : Int32} {p4 : Option Nat} {p6 : Option Nat} {S : zs_T} {Q : zs_Q} (hB : zt_B bf) (h : w_X2_move_316 (zx σ n0 bf) d p0 p2 p3 p4 p6 S Q) : zs_U (zx σ n0 bf) d 1008 316 [(0, .ref p0), (2, .int p2), (3, .int p3), (4, va_rf p4), (6, va_rf p6)] [] S Q := by
  unfold w_X2_move_316 at h
  refine zu_aload_n d_1008_316 rfl (zs_ra _) ?_
  refine zu_aload d_1008_317 rfl (zs_rr _) ?_
  obtain ⟨b1, e2, h⟩ := h
  refine zs_stk0 (zs_rfe e2) ?_
  obtain ⟨k3, h⟩ := h
  refine zg_1_246 rfl d_1008_319 k3 ?_
  refine zu_aload_n d_1008_322 rfl (zs_ra _) ?_
  obtain ⟨k4, h⟩ := h
  refine zg_1_107 rfl d_1008_323 k4 ?_
  obtain ⟨b5, e6, h⟩ := h
  refine zs_stk0 (zs_rfe e6) ?_
  obtain ⟨k7, h⟩ := h
  refine zg_1_250 rfl d_1008_326 k7 ?_
  refine zu_aload d_1008_329 rfl (zs_rr _) ?_
  refine zu_iload_n d_1008_331 rfl ?_
  refine zu_iconst d_1008_332 zi_3 ?_
  refine zu_stk d_1008_333 rfl rfl ?_
  obtain ⟨b8, e9, h⟩ := h
  refine zs_stk1 (zs_rfe e9) ?_
  obtain ⟨k10, h⟩ := h
  refine zu_iald (k := 0) d_1008_334 rfl rfl k10 ?_
  obtain ⟨b11, e12, h⟩ := h
  refine zs_stk1 (zs_rfe e12) ?_
  obtain ⟨k13, h⟩ := h
  refine zc_1_162 (x0 := (zs_i S b8 (p3 + (3 : Int32)).toNatClampNeg)) hB rfl k13 d_1008_335 (by simp only [List.map_cons, List.map_nil, List.sum_cons, List.sum_nil, zs_cat, zs_cI, zs_cJ, zs_cA]; exact Nat.le_of_ble_eq_true rfl) h (fun v15 S14 h => ?_)
  obtain ⟨k16, h⟩ := h
  refine zk_1_252 (o := v15) rfl d_1008_338 k16 ?_
  refine zu_iload_n d_1008_341 rfl ?_
  obtain ⟨k17, h⟩ := h
  refine zc_1_254 (x0 := (zs_R S 6006 b1)) (x1 := v15) (x2 := p2) hB rfl k17 d_1008_342 (Nat.le_of_ble_eq_true rfl) h (fun S18 h => ?_)
  refine zu_goto (t := 868) d_1008_345 rfl ?_
  exact (u_X2_move_868 hB h).weak trivial
def w_X2_move_404 (X : zs_X) (d : Nat)  (S : zs_T) (Q : zs_Q) : Prop :=
  (w_X2_move_868 X d  S Q)
theorem u_X2_move_404 {σ : Nat → Nat} {n0 : Nat} {bf : ab_B} {d : Nat}  {S : zs_T} {Q : zs_Q} (hB : zt_B bf) (h : w_X2_move_404 (zx σ n0 bf) d  S Q) : zs_U (zx σ n0 bf) d 1008 404 [] [] S Q := by
  unfold w_X2_move_404 at h
  refine zu_goto (t := 868) d_1008_404 rfl ?_
  exact (u_X2_move_868 hB h).weak trivial
def w_X2_move_369 (X : zs_X) (d : Nat) (p0 : Nat) (p7 : Option Nat) (S : zs_T) (Q : zs_Q) : Prop :=
  (zs_K S p0 = some (.inl 1) ∧ zs_C X d 1019 [.ref p0, va_rf p7, .int ((120004 : Int32) + ((4 : Int32) * ((zs_I S 1007 p0) - (1 : Int32))))] S (zs_kV (fun S2 => (zs_K S2 p0 = some (.inl 1) ∧ ∃ b5, (zs_R S2 1006 p0) = some b5 ∧ zs_A S2 b5 0 ((zs_I S2 1007 p0) - (1 : Int32)) ∧ ab_n0 X.1 ≤ b5 ∧ ∀ S9, S9 = zs_si S2 b5 ((zs_I S2 1007 p0) - (1 : Int32)).toNatClampNeg ((120004 : Int32) + ((4 : Int32) * ((zs_I S 1007 p0) - (1 : Int32)))) → w_X2_move_404 X d  S9 Q)) Q))
theorem u_X2_move_369 {σ : Nat → Nat} {n0 : Nat} {bf : ab_B} {d : Nat} {p0 : Nat} {p7 : Option Nat} {S : zs_T} {Q : zs_Q} (hB : zt_B bf) (h : w_X2_move_369 (zx σ n0 bf) d p0 p7 S Q) : zs_U (zx σ n0 bf) d 1008 369 [(0, .ref p0), (7, va_rf p7)] [] S Q := by
  unfold w_X2_move_369 at h
  refine zlw_1_258 rfl d_1008_369 ?_
  refine zu_iconst d_1008_372 zi_4 ?_
  refine zu_aload_n d_1008_373 rfl (zs_ra _) ?_
  obtain ⟨k1, h⟩ := h
  refine zg_1_111 rfl d_1008_374 k1 ?_
  refine zu_iconst d_1008_377 zi_1 ?_
  refine zu_stk d_1008_378 rfl rfl ?_
  refine zu_stk d_1008_379 rfl rfl ?_
  refine zu_stk d_1008_380 rfl rfl ?_
  refine zu_istore d_1008_381 (zs_lt zq_1008 rfl) ?_
  refine zs_U.weak (L1 := [(8, .int ((120004 : Int32) + ((4 : Int32) * ((zs_I S 1007 p0) - (1 : Int32))))), (0, .ref p0), (7, va_rf p7)]) ?_ ⟨rfl, zs_gp1 rfl (Or.inl rfl) rfl, zs_gp1 rfl (Or.inl (zs_cat _)) rfl, trivial⟩
  refine zu_aload_n d_1008_383 rfl (zs_ra _) ?_
  refine zu_aload d_1008_384 rfl (zs_rr _) ?_
  refine zu_iload d_1008_386 rfl ?_
  refine zc_1_259 (x0 := p7) (x1 := ((120004 : Int32) + ((4 : Int32) * ((zs_I S 1007 p0) - (1 : Int32))))) hB rfl k1 d_1008_388 (Nat.le_of_ble_eq_true rfl) h (fun S2 h => ?_)
  refine zu_aload_n d_1008_391 rfl (zs_ra _) ?_
  obtain ⟨k4, h⟩ := h
  refine zg_1_39 rfl d_1008_392 k4 ?_
  refine zu_aload_n d_1008_395 rfl (zs_ra _) ?_
  refine zg_1_111 rfl d_1008_396 k4 ?_
  refine zu_iconst d_1008_399 zi_1 ?_
  refine zu_stk d_1008_400 rfl rfl ?_
  refine zu_iload d_1008_401 rfl ?_
  obtain ⟨b5, e6, h⟩ := h
  refine zs_stk2 (zs_rfe e6) ?_
  obtain ⟨k7, h⟩ := h
  obtain ⟨k8, h⟩ := h
  refine zu_iast (k := 0) d_1008_403 rfl rfl k8 k7 ?_
  generalize e10 : zs_si S2 b5 ((zs_I S2 1007 p0) - (1 : Int32)).toNatClampNeg ((120004 : Int32) + ((4 : Int32) * ((zs_I S 1007 p0) - (1 : Int32)))) = S9
  have h := h S9 e10.symm
  have K11 : ∀ b, zs_K S9 b = zs_K S2 b := zs_Kt e10 (zs_Ksi _ _ _ _) (fun _ => rfl)
  exact (u_X2_move_404 hB h).weak trivial
def w_X2_move_431 (X : zs_X) (d : Nat)  (S : zs_T) (Q : zs_Q) : Prop :=
  (w_X2_move_868 X d  S Q)
theorem u_X2_move_431 {σ : Nat → Nat} {n0 : Nat} {bf : ab_B} {d : Nat}  {S : zs_T} {Q : zs_Q} (hB : zt_B bf) (h : w_X2_move_431 (zx σ n0 bf) d  S Q) : zs_U (zx σ n0 bf) d 1008 431 [] [] S Q := by
  unfold w_X2_move_431 at h
  refine zu_goto (t := 868) d_1008_431 rfl ?_
  exact (u_X2_move_868 hB h).weak trivial
def w_X2_move_500 (X : zs_X) (d : Nat) (p0 : Nat) (p9 : Int32) (S : zs_T) (Q : zs_Q) : Prop :=
  (zs_K S p0 = some (.inl 1) ∧ ∃ b2, (zs_R S 1001 p0) = some b2 ∧ zs_A S b2 3 p9 ∧ zs_C X d 1009 [.ref p0, .long (zs_j S b2 p9.toNatClampNeg)] S (zs_kV (fun S5 => (w_X2_move_868 X d  S5 Q)) Q))
theorem u_X2_move_500 {σ : Nat → Nat} {n0 : Nat} {bf : ab_B} {d : Nat} {p0 : Nat} {p9 : Int32} {S : zs_T} {Q : zs_Q} (hB : zt_B bf) (h : w_X2_move_500 (zx σ n0 bf) d p0 p9 S Q) : zs_U (zx σ n0 bf) d 1008 500 [(0, .ref p0), (9, .int p9)] [] S Q := by
  unfold w_X2_move_500 at h
  refine zu_aload_n d_1008_500 rfl (zs_ra _) ?_
  refine zu_aload_n d_1008_501 rfl (zs_ra _) ?_
  obtain ⟨k1, h⟩ := h
  refine zg_1_10 rfl d_1008_502 k1 ?_
  refine zu_iload d_1008_505 rfl ?_
  obtain ⟨b2, e3, h⟩ := h
  refine zs_stk1 (zs_rfe e3) ?_
  obtain ⟨k4, h⟩ := h
  refine zu_lald (k := 3) d_1008_507 rfl rfl k4 ?_
  refine zc_1_223 (x0 := (zs_j S b2 p9.toNatClampNeg)) hB rfl k1 d_1008_508 (Nat.le_of_ble_eq_true rfl) h (fun S5 h => ?_)
  refine zu_goto (t := 868) d_1008_511 rfl ?_
  exact (u_X2_move_868 hB h).weak trivial
def w_X2_move_490 (X : zs_X) (d : Nat) (p0 : Nat) (p2 : Int32) (S : zs_T) (Q : zs_Q) : Prop :=
  (zs_K S p0 = some (.inl 1) ∧ zs_C X d 1004 [.ref p0, .int (1 : Int32), .int p2] S (zs_kI (fun v3 S2 => (w_X2_move_868 X d  S2 Q)) Q))
theorem u_X2_move_490 {σ : Nat → Nat} {n0 : Nat} {bf : ab_B} {d : Nat} {p0 : Nat} {p2 : Int32} {S : zs_T} {Q : zs_Q} (hB : zt_B bf) (h : w_X2_move_490 (zx σ n0 bf) d p0 p2 S Q) : zs_U (zx σ n0 bf) d 1008 490 [(0, .ref p0), (2, .int p2)] [] S Q := by
  unfold w_X2_move_490 at h
  refine zu_aload_n d_1008_490 rfl (zs_ra _) ?_
  refine zu_iconst d_1008_491 zi_1 ?_
  refine zu_iload_n d_1008_492 rfl ?_
  obtain ⟨k1, h⟩ := h
  refine zc_1_194 (x0 := (1 : Int32)) (x1 := p2) hB rfl k1 d_1008_493 (Nat.le_of_ble_eq_true rfl) h (fun v3 S2 h => ?_)
  refine zu_pop d_1008_496 rfl ?_
  refine zu_goto (t := 868) d_1008_497 rfl ?_
  exact (u_X2_move_868 hB h).weak trivial
def w_X2_move_453 (X : zs_X) (d : Nat) (p0 : Nat) (p2 : Int32) (p3 : Int32) (p4 : Option Nat) (p9 : Int32) (S : zs_T) (Q : zs_Q) : Prop :=
  (zs_K S p0 = some (.inl 1) ∧ ∃ b2, (zs_R S 1006 p0) = some b2 ∧ zs_A S b2 0 (zs_I S 1007 p0) ∧ ∃ b5, (zs_R S 1000 p0) = some b5 ∧ zs_K S b5 = some (.inl 3) ∧ ∃ b8, p4 = some b8 ∧ zs_A S b8 0 (p3 + (2 : Int32)) ∧ ∃ b11, (zs_R S 3002 b5) = some b11 ∧ zs_K S b11 = some (.inl 16) ∧ zs_C X d 16009 [.ref b11, .int (zs_i S b8 (p3 + (2 : Int32)).toNatClampNeg)] S (zs_kR (fun v15 S14 => ((∀ a, v15 = some a → zs_K S14 a = some (.inl 6)) ∧ zs_K S14 p0 = some (.inl 1) ∧ zs_C X d 1016 [.ref p0, .int p9, .int (zs_i S b2 (zs_I S 1007 p0).toNatClampNeg), va_rf v15] S14 (zs_kI (fun v19 S18 => (((¬ v19 = 0 → w_X2_move_500 X d p0 p9 S18 Q) ∧ (¬ (¬ v19 = 0) → w_X2_move_490 X d p0 p2 S18 Q)))) Q))) Q))
theorem u_X2_move_453 {σ : Nat → Nat} {n0 : Nat} {bf : ab_B} {d : Nat} {p0 : Nat} {p2 : Int32} {p3 : Int32} {p4 : Option Nat} {p9 : Int32} {S : zs_T} {Q : zs_Q} (hB : zt_B bf) (h : w_X2_move_453 (zx σ n0 bf) d p0 p2 p3 p4 p9 S Q) : zs_U (zx σ n0 bf) d 1008 453 [(0, .ref p0), (2, .int p2), (3, .int p3), (4, va_rf p4), (9, .int p9)] [] S Q := by
  unfold w_X2_move_453 at h
  refine zu_aload_n d_1008_453 rfl (zs_ra _) ?_
  refine zu_iload d_1008_454 rfl ?_
  refine zu_aload_n d_1008_456 rfl (zs_ra _) ?_
  obtain ⟨k1, h⟩ := h
  refine zg_1_39 rfl d_1008_457 k1 ?_
  refine zu_aload_n d_1008_460 rfl (zs_ra _) ?_
  refine zg_1_111 rfl d_1008_461 k1 ?_
  obtain ⟨b2, e3, h⟩ := h
  refine zs_stk1 (zs_rfe e3) ?_
  obtain ⟨k4, h⟩ := h
  refine zu_iald (k := 0) d_1008_464 rfl rfl k4 ?_
  refine zu_aload_n d_1008_465 rfl (zs_ra _) ?_
  refine zg_1_107 rfl d_1008_466 k1 ?_
  obtain ⟨b5, e6, h⟩ := h
  refine zs_stk0 (zs_rfe e6) ?_
  obtain ⟨k7, h⟩ := h
  refine zg_1_239 rfl d_1008_469 k7 ?_
  refine zu_aload d_1008_472 rfl (zs_rr _) ?_
  refine zu_iload_n d_1008_474 rfl ?_
  refine zu_iconst d_1008_475 zi_2 ?_
  refine zu_stk d_1008_476 rfl rfl ?_
  obtain ⟨b8, e9, h⟩ := h
  refine zs_stk1 (zs_rfe e9) ?_
  obtain ⟨k10, h⟩ := h
  refine zu_iald (k := 0) d_1008_477 rfl rfl k10 ?_
  obtain ⟨b11, e12, h⟩ := h
  refine zs_stk1 (zs_rfe e12) ?_
  obtain ⟨k13, h⟩ := h
  refine zc_1_162 (x0 := (zs_i S b8 (p3 + (2 : Int32)).toNatClampNeg)) hB rfl k13 d_1008_478 (Nat.le_of_ble_eq_true rfl) h (fun v15 S14 h => ?_)
  obtain ⟨k16, h⟩ := h
  refine zk_1_91 (o := v15) rfl d_1008_481 k16 ?_
  obtain ⟨k17, h⟩ := h
  refine zc_1_265 (x0 := p9) (x1 := (zs_i S b2 (zs_I S 1007 p0).toNatClampNeg)) (x2 := v15) hB rfl k17 d_1008_484 (Nat.le_of_ble_eq_true rfl) h (fun v19 S18 h => ?_)
  refine zu_ifne (t := 500) d_1008_487 rfl (fun c20 => ?_) (fun c20 => ?_)
  · have h := h.1 c20
    exact (u_X2_move_500 hB h).weak ⟨rfl, rfl, trivial⟩
  · have h := h.2 c20
    exact (u_X2_move_490 hB h).weak ⟨rfl, rfl, trivial⟩
def w_X2_move_567 (X : zs_X) (d : Nat)  (S : zs_T) (Q : zs_Q) : Prop :=
  (w_X2_move_868 X d  S Q)
theorem u_X2_move_567 {σ : Nat → Nat} {n0 : Nat} {bf : ab_B} {d : Nat}  {S : zs_T} {Q : zs_Q} (hB : zt_B bf) (h : w_X2_move_567 (zx σ n0 bf) d  S Q) : zs_U (zx σ n0 bf) d 1008 567 [] [] S Q := by
  unfold w_X2_move_567 at h
  refine zu_goto (t := 868) d_1008_567 rfl ?_
  exact (u_X2_move_868 hB h).weak trivial
def w_X2_move_605 (X : zs_X) (d : Nat)  (S : zs_T) (Q : zs_Q) : Prop :=
  (w_X2_move_868 X d  S Q)
theorem u_X2_move_605 {σ : Nat → Nat} {n0 : Nat} {bf : ab_B} {d : Nat}  {S : zs_T} {Q : zs_Q} (hB : zt_B bf) (h : w_X2_move_605 (zx σ n0 bf) d  S Q) : zs_U (zx σ n0 bf) d 1008 605 [] [] S Q := by
  unfold w_X2_move_605 at h
  refine zu_goto (t := 868) d_1008_605 rfl ?_
  exact (u_X2_move_868 hB h).weak trivial
def w_X2_move_672 (X : zs_X) (d : Nat) (q0 : Int32) (S : zs_T) (Q : zs_Q) : Prop :=
  (w_X2_move_868 X d  S Q)
theorem u_X2_move_672 {σ : Nat → Nat} {n0 : Nat} {bf : ab_B} {d : Nat} {q0 : Int32} {S : zs_T} {Q : zs_Q} (hB : zt_B bf) (h : w_X2_move_672 (zx σ n0 bf) d q0 S Q) : zs_U (zx σ n0 bf) d 1008 672 [] [.int q0] S Q := by
  unfold w_X2_move_672 at h
  refine zu_pop d_1008_672 rfl ?_
  refine zu_goto (t := 868) d_1008_673 rfl ?_
  exact (u_X2_move_868 hB h).weak trivial
def w_X2_move_729 (X : zs_X) (d : Nat) (q0 : Int32) (S : zs_T) (Q : zs_Q) : Prop :=
  (w_X2_move_868 X d  S Q)
theorem u_X2_move_729 {σ : Nat → Nat} {n0 : Nat} {bf : ab_B} {d : Nat} {q0 : Int32} {S : zs_T} {Q : zs_Q} (hB : zt_B bf) (h : w_X2_move_729 (zx σ n0 bf) d q0 S Q) : zs_U (zx σ n0 bf) d 1008 729 [] [.int q0] S Q := by
  unfold w_X2_move_729 at h
  refine zu_pop d_1008_729 rfl ?_
  refine zu_goto (t := 868) d_1008_730 rfl ?_
  exact (u_X2_move_868 hB h).weak trivial
def w_X2_move_789 (X : zs_X) (d : Nat)  (S : zs_T) (Q : zs_Q) : Prop :=
  (w_X2_move_868 X d  S Q)
theorem u_X2_move_789 {σ : Nat → Nat} {n0 : Nat} {bf : ab_B} {d : Nat}  {S : zs_T} {Q : zs_Q} (hB : zt_B bf) (h : w_X2_move_789 (zx σ n0 bf) d  S Q) : zs_U (zx σ n0 bf) d 1008 789 [] [] S Q := by
  unfold w_X2_move_789 at h
  refine zu_goto (t := 868) d_1008_789 rfl ?_
  exact (u_X2_move_868 hB h).weak trivial
def w_X2_move_816 (X : zs_X) (d : Nat)  (S : zs_T) (Q : zs_Q) : Prop :=
  (w_X2_move_868 X d  S Q)
theorem u_X2_move_816 {σ : Nat → Nat} {n0 : Nat} {bf : ab_B} {d : Nat}  {S : zs_T} {Q : zs_Q} (hB : zt_B bf) (h : w_X2_move_816 (zx σ n0 bf) d  S Q) : zs_U (zx σ n0 bf) d 1008 816 [] [] S Q := by
  unfold w_X2_move_816 at h
  refine zu_goto (t := 868) d_1008_816 rfl ?_
  exact (u_X2_move_868 hB h).weak trivial
def w_X2_move (X : zs_X) (d : Nat) (p0 : Nat) (p1 : Int32) (p2 : Int32) (p3 : Int32) (S : zs_T) (Q : zs_Q) : Prop :=
  (zs_K S p0 = some (.inl 1) ∧ ∃ b2, (zs_R S 1000 p0) = some b2 ∧ zs_K S b2 = some (.inl 3) ∧ ((p1.toInt < 0 ∨ 14 < p1.toInt → (ab_n0 X.1 ≤ p0 ∧ ∀ S7, S7 = zs_sI S 1007 p0 ((zs_I S 1007 p0) - (1 : Int32)) → ∃ b10, (zs_R S7 1021 p0) = some b10 ∧ zs_A S b10 0 (zs_I S7 1025 p0) ∧ ∃ b13, (zs_R S 3000 b2) = some b13 ∧ zs_A S b13 0 (p3 + (2 : Int32)) ∧ ∃ b16, (zs_R S7 1005 p0) = some b16 ∧ zs_A S b16 3 (zs_I S7 1007 p0) ∧ ∃ b19, (zs_R S7 1006 p0) = some b19 ∧ zs_A S b19 0 (zs_I S7 1007 p0) ∧ zs_C X d 1030 [.ref p0, .int ((zs_i S7 b10 (zs_I S7 1025 p0).toNatClampNeg) + (zs_i S7 b13 (p3 + (2 : Int32)).toNatClampNeg)), .int (((zs_j S7 b16 (zs_I S7 1007 p0).toNatClampNeg)).toInt32), .int (zs_i S7 b19 (zs_I S7 1007 p0).toNatClampNeg)] S7 (zs_kV (fun S22 => w_X2_move_868 X d  S22 Q) Q))) ∧ (p1.toInt = 0 → (ab_n0 X.1 ≤ p0 ∧ ∀ S25, S25 = zs_sI S 1035 p0 ((zs_I S 1035 p0) - (1 : Int32)) → ∀ S28, S28 = zs_sI S25 1034 p0 ((zs_I S25 1034 p0) + (1 : Int32)) → w_X2_move_104 X d p0 p2 S28 Q)) ∧ (p1.toInt = 1 → (∃ b31, (zs_R S 3000 b2) = some b31 ∧ zs_A S b31 0 (p3 + (2 : Int32)) ∧ zs_C X d 1009 [.ref p0, .long (((zs_i S b31 (p3 + (2 : Int32)).toNatClampNeg)).toInt64)] S (zs_kV (fun S34 => (w_X2_move_868 X d  S34 Q)) Q))) ∧ (p1.toInt = 2 → (∃ b36, (zs_R S 3000 b2) = some b36 ∧ zs_A S b36 0 (p3 + (3 : Int32)) ∧ zs_A S b36 0 (p3 + (2 : Int32)) ∧ zs_C X d 1010 [.ref p0, .int ((zs_i S b36 (p3 + (3 : Int32)).toNatClampNeg) - (zs_i S b36 (p3 + (2 : Int32)).toNatClampNeg)), .int p2] S (zs_kI (fun v41 S40 => (((¬ v41 = 0 → w_X2_move_153 X d p0 p3 (zs_R S 3000 b2) S40 Q) ∧ (¬ (¬ v41 = 0) → w_X2_move_152 X d  S40 Q)))) Q))) ∧ (p1.toInt = 3 → (∃ b43, (zs_R S 3000 b2) = some b43 ∧ zs_A S b43 0 (p3 + (2 : Int32)) ∧ zs_A S b43 0 (p3 + (3 : Int32)) ∧ zs_C X d 1011 [.ref p0, .int (zs_i S b43 (p3 + (2 : Int32)).toNatClampNeg), .int (zs_i S b43 (p3 + (3 : Int32)).toNatClampNeg)] S (zs_kI (fun v48 S47 => (w_X2_move_225 X d p0 p2 v48 S47 Q)) Q))) ∧ (p1.toInt = 4 → (∃ b49, (zs_R S 3000 b2) = some b49 ∧ zs_A S b49 0 (p3 + (2 : Int32)) ∧ ∃ b52, (zs_R S 3002 b2) = some b52 ∧ zs_K S b52 = some (.inl 16) ∧ zs_C X d 16009 [.ref b52, .int (zs_i S b49 (p3 + (2 : Int32)).toNatClampNeg)] S (zs_kR (fun v56 S55 => ((∀ a, v56 = some a → zs_K S55 a = some (.inl 6)) ∧ zs_K S55 p0 = some (.inl 1) ∧ zs_C X d 1013 [.ref p0, va_rf v56, .int p2] S55 (zs_kV (fun S59 => w_X2_move_292 X d  S59 Q) Q))) Q))) ∧ (p1.toInt = 5 → (∃ b61, (zs_R S 3000 b2) = some b61 ∧ zs_A S b61 0 (p3 + (2 : Int32)) ∧ ∃ b64, (zs_R S 3002 b2) = some b64 ∧ zs_K S b64 = some (.inl 16) ∧ zs_C X d 16009 [.ref b64, .int (zs_i S b61 (p3 + (2 : Int32)).toNatClampNeg)] S (zs_kR (fun v68 S67 => ((∀ a, v68 = some a → zs_K S67 a = some (.inl 6)) ∧ w_X2_move_316 X d p0 p2 p3 (zs_R S 3000 b2) v68 S67 Q)) Q))) ∧ (p1.toInt = 6 → (∃ b70, (zs_R S 3000 b2) = some b70 ∧ zs_A S b70 0 (p3 + (2 : Int32)) ∧ ∃ b73, (zs_R S 3002 b2) = some b73 ∧ zs_K S b73 = some (.inl 16) ∧ zs_C X d 16009 [.ref b73, .int (zs_i S b70 (p3 + (2 : Int32)).toNatClampNeg)] S (zs_kR (fun v77 S76 => ((∀ a, v77 = some a → zs_K S76 a = some (.inl 6)) ∧ w_X2_move_369 X d p0 v77 S76 Q)) Q))) ∧ (p1.toInt = 7 → (∃ b79, (zs_R S 3000 b2) = some b79 ∧ zs_A S b79 0 (p3 + (2 : Int32)) ∧ ∃ b82, (zs_R S 3002 b2) = some b82 ∧ zs_K S b82 = some (.inl 16) ∧ zs_C X d 16009 [.ref b82, .int (zs_i S b79 (p3 + (2 : Int32)).toNatClampNeg)] S (zs_kR (fun v86 S85 => ((∀ a, v86 = some a → zs_K S85 a = some (.inl 6)) ∧ zs_K S85 p0 = some (.inl 1) ∧ zs_C X d 1020 [.ref p0, va_rf v86, .int p2] S85 (zs_kV (fun S89 => w_X2_move_431 X d  S89 Q) Q))) Q))) ∧ (p1.toInt = 8 → (ab_n0 X.1 ≤ p0 ∧ ∀ S92, S92 = zs_sI S 1007 p0 ((zs_I S 1007 p0) - (1 : Int32)) → ∃ b95, (zs_R S 1005 p0) = some b95 ∧ zs_A S b95 3 ((zs_I S 1007 p0) - (1 : Int32)) ∧ w_X2_move_453 X d p0 p2 p3 (zs_R S 3000 b2) (((zs_j S92 b95 ((zs_I S 1007 p0) - (1 : Int32)).toNatClampNeg)).toInt32) S92 Q)) ∧ (p1.toInt = 9 → (ab_n0 X.1 ≤ p0 ∧ ∀ S99, S99 = zs_sI S 1007 p0 ((zs_I S 1007 p0) - (1 : Int32)) → ∃ b102, (zs_R S99 1005 p0) = some b102 ∧ zs_A S b102 3 (zs_I S99 1007 p0) ∧ ∃ b105, (zs_R S99 1006 p0) = some b105 ∧ zs_A S b105 0 (zs_I S99 1007 p0) ∧ ∃ b108, (zs_R S99 1000 p0) = some b108 ∧ zs_K S b108 = some (.inl 3) ∧ ∃ b111, (zs_R S 3000 b2) = some b111 ∧ zs_A S b111 0 (p3 + (2 : Int32)) ∧ ∃ b114, (zs_R S99 3002 b108) = some b114 ∧ zs_K S b114 = some (.inl 16) ∧ zs_C X d 16009 [.ref b114, .int (zs_i S99 b111 (p3 + (2 : Int32)).toNatClampNeg)] S99 (zs_kR (fun v118 S117 => ((∀ a, v118 = some a → zs_K S117 a = some (.inl 6)) ∧ zs_K S117 p0 = some (.inl 1) ∧ zs_C X d 1021 [.ref p0, .int (((zs_j S99 b102 (zs_I S99 1007 p0).toNatClampNeg)).toInt32), .int (zs_i S99 b105 (zs_I S99 1007 p0).toNatClampNeg), va_rf v118, .int p2] S117 (zs_kV (fun S121 => w_X2_move_567 X d  S121 Q) Q))) Q))) ∧ (p1.toInt = 10 → (ab_n0 X.1 ≤ p0 ∧ ∀ S124, S124 = zs_sI S 1007 p0 ((zs_I S 1007 p0) - (1 : Int32)) → ∃ b127, (zs_R S124 1006 p0) = some b127 ∧ zs_A S b127 0 (zs_I S124 1007 p0) ∧ ∃ b130, (zs_R S 3000 b2) = some b130 ∧ zs_A S b130 0 (p3 + (2 : Int32)) ∧ ∃ b133, (zs_R S124 1001 p0) = some b133 ∧ zs_A S b133 3 ((zs_i S124 b127 (zs_I S124 1007 p0).toNatClampNeg) + (zs_i S124 b130 (p3 + (2 : Int32)).toNatClampNeg)) ∧ zs_C X d 1009 [.ref p0, .long (zs_j S124 b133 ((zs_i S124 b127 (zs_I S124 1007 p0).toNatClampNeg) + (zs_i S124 b130 (p3 + (2 : Int32)).toNatClampNeg)).toNatClampNeg)] S124 (zs_kV (fun S136 => w_X2_move_605 X d  S136 Q) Q))) ∧ (p1.toInt = 11 → (ab_n0 X.1 ≤ p0 ∧ ∀ S139, S139 = zs_sI S 1007 p0 ((zs_I S 1007 p0) - (2 : Int32)) → ∃ b142, (zs_R S139 1005 p0) = some b142 ∧ zs_A S b142 3 (zs_I S139 1007 p0) ∧ ∃ b145, (zs_R S139 1006 p0) = some b145 ∧ zs_A S b145 0 (zs_I S139 1007 p0) ∧ ∃ b148, (zs_R S139 1000 p0) = some b148 ∧ zs_K S b148 = some (.inl 3) ∧ ∃ b151, (zs_R S 3000 b2) = some b151 ∧ zs_A S b151 0 (p3 + (2 : Int32)) ∧ ∃ b154, (zs_R S139 3002 b148) = some b154 ∧ zs_K S b154 = some (.inl 16) ∧ zs_C X d 16009 [.ref b154, .int (zs_i S139 b151 (p3 + (2 : Int32)).toNatClampNeg)] S139 (zs_kR (fun v158 S157 => ((∀ a, v158 = some a → zs_K S157 a = some (.inl 6)) ∧ zs_K S157 p0 = some (.inl 1) ∧ ∃ b161, (zs_R S157 1005 p0) = some b161 ∧ zs_A S157 b161 3 ((zs_I S157 1007 p0) + (1 : Int32)) ∧ zs_C X d 1022 [.ref p0, .int (((zs_j S139 b142 (zs_I S139 1007 p0).toNatClampNeg)).toInt32), .int (zs_i S139 b145 (zs_I S139 1007 p0).toNatClampNeg), va_rf v158, .long (zs_j S157 b161 ((zs_I S157 1007 p0) + (1 : Int32)).toNatClampNeg), .int p2] S157 (zs_kI (fun v165 S164 => w_X2_move_672 X d v165 S164 Q) Q))) Q))) ∧ (p1.toInt = 12 → (ab_n0 X.1 ≤ p0 ∧ ∀ S167, S167 = zs_sI S 1007 p0 ((zs_I S 1007 p0) - (1 : Int32)) → ∃ b170, (zs_R S167 1005 p0) = some b170 ∧ zs_A S b170 3 (zs_I S167 1007 p0) ∧ ∃ b173, (zs_R S167 1006 p0) = some b173 ∧ zs_A S b173 0 (zs_I S167 1007 p0) ∧ ∃ b176, (zs_R S167 1000 p0) = some b176 ∧ zs_K S b176 = some (.inl 3) ∧ ∃ b179, (zs_R S 3000 b2) = some b179 ∧ zs_A S b179 0 (p3 + (2 : Int32)) ∧ ∃ b182, (zs_R S167 3002 b176) = some b182 ∧ zs_K S b182 = some (.inl 16) ∧ zs_C X d 16009 [.ref b182, .int (zs_i S167 b179 (p3 + (2 : Int32)).toNatClampNeg)] S167 (zs_kR (fun v186 S185 => ((∀ a, v186 = some a → zs_K S185 a = some (.inl 6)) ∧ zs_K S185 p0 = some (.inl 1) ∧ zs_C X d 1024 [.ref p0, .int (((zs_j S167 b170 (zs_I S167 1007 p0).toNatClampNeg)).toInt32), .int (zs_i S167 b173 (zs_I S167 1007 p0).toNatClampNeg), va_rf v186, .int p2] S185 (zs_kI (fun v190 S189 => w_X2_move_729 X d v190 S189 Q) Q))) Q))) ∧ (p1.toInt = 13 → (ab_n0 X.1 ≤ p0 ∧ ∀ S192, S192 = zs_sI S 1007 p0 ((zs_I S 1007 p0) - (2 : Int32)) → ∃ b195, (zs_R S192 1000 p0) = some b195 ∧ zs_K S b195 = some (.inl 3) ∧ ∃ b198, (zs_R S 3000 b2) = some b198 ∧ zs_A S b198 0 (p3 + (2 : Int32)) ∧ ∃ b201, (zs_R S192 3002 b195) = some b201 ∧ zs_K S b201 = some (.inl 16) ∧ zs_C X d 16009 [.ref b201, .int (zs_i S192 b198 (p3 + (2 : Int32)).toNatClampNeg)] S192 (zs_kR (fun v205 S204 => ((∀ a, v205 = some a → zs_K S204 a = some (.inl 6)) ∧ zs_K S204 p0 = some (.inl 1) ∧ ∃ b208, (zs_R S204 1000 p0) = some b208 ∧ zs_K S204 b208 = some (.inl 3) ∧ zs_A S204 b198 0 (p3 + (3 : Int32)) ∧ ∃ b212, (zs_R S204 3003 b208) = some b212 ∧ zs_K S204 b212 = some (.inl 16) ∧ zs_C X d 16009 [.ref b212, .int (zs_i S204 b198 (p3 + (3 : Int32)).toNatClampNeg)] S204 (zs_kR (fun v216 S215 => ((∀ a, v216 = some a → zs_K S215 a = some (.inl 12)) ∧ ∃ b218, v216 = some b218 ∧ zs_K S215 b218 = some (.inl 12) ∧ zs_K S215 p0 = some (.inl 1) ∧ zs_C X d 1025 [.ref p0, va_rf v205, va_rf (zs_R S215 12003 b218), .int p2] S215 (zs_kV (fun S222 => w_X2_move_789 X d  S222 Q) Q))) Q))) Q))) ∧ (p1.toInt = 14 → (∃ b224, (zs_R S 3000 b2) = some b224 ∧ zs_A S b224 0 (p3 + (2 : Int32)) ∧ ∃ b227, (zs_R S 3002 b2) = some b227 ∧ zs_K S b227 = some (.inl 16) ∧ zs_C X d 16009 [.ref b227, .int (zs_i S b224 (p3 + (2 : Int32)).toNatClampNeg)] S (zs_kR (fun v231 S230 => ((∀ a, v231 = some a → zs_K S230 a = some (.inl 6)) ∧ zs_K S230 p0 = some (.inl 1) ∧ zs_C X d 1026 [.ref p0, va_rf v231, .int p2] S230 (zs_kV (fun S234 => w_X2_move_816 X d  S234 Q) Q))) Q)))))
theorem u_X2_move {σ : Nat → Nat} {n0 : Nat} {bf : ab_B} {d : Nat} {p0 : Nat} {p1 : Int32} {p2 : Int32} {p3 : Int32} {S : zs_T} {Q : zs_Q} (hB : zt_B bf) (hd : 1 ≤ d) (h : w_X2_move (zx σ n0 bf) (d - 1) p0 p1 p2 p3 S Q) : zs_C (zx σ n0 bf) d 1008 [.ref p0, .int p1, .int p2, .int p3] S Q := by
  have hL : lv_args 0 [.ref p0, .int p1, .int p2, .int p3] = [(0, .ref p0), (1, .int p1), (2, .int p2), (3, .int p3)] := rfl
  refine zs_C.of1 (hB.2 1008 (by decide) (by decide)) hd (by rw [hL]; exact zs_sub_self _ (by exact ⟨rfl, rfl, rfl, rfl, trivial⟩)) ?_
  rw [hL]
  clear hL
  unfold w_X2_move at h
  refine zu_aload_n d_1008_0 rfl (zs_ra _) ?_
  obtain ⟨k1, h⟩ := h
  refine zg_1_107 rfl d_1008_1 k1 ?_
  obtain ⟨b2, e3, h⟩ := h
  refine zs_stk0 (zs_rfe e3) ?_
  obtain ⟨k4, h⟩ := h
  refine zg_1_201 rfl d_1008_4 k4 ?_
  refine zu_astore d_1008_7 (zs_rr _) (zs_lt zq_1008 rfl) ?_
  refine zu_iload_n d_1008_9 rfl ?_
  refine zu_tsw (td := 819) d_1008_10 (by decide) rfl (fun c5 => ?_) ⟨fun c5 => ⟨by decide, ?_⟩, fun c5 => ⟨by decide, ?_⟩, fun c5 => ⟨by decide, ?_⟩, fun c5 => ⟨by decide, ?_⟩, fun c5 => ⟨by decide, ?_⟩, fun c5 => ⟨by decide, ?_⟩, fun c5 => ⟨by decide, ?_⟩, fun c5 => ⟨by decide, ?_⟩, fun c5 => ⟨by decide, ?_⟩, fun c5 => ⟨by decide, ?_⟩, fun c5 => ⟨by decide, ?_⟩, fun c5 => ⟨by decide, ?_⟩, fun c5 => ⟨by decide, ?_⟩, fun c5 => ⟨by decide, ?_⟩, fun c5 => ⟨by decide, ?_⟩, trivial⟩
  · have h := h.1 c5
    refine zu_aload_n d_1008_819 rfl (zs_ra _) ?_
    refine zu_dup d_1008_820 rfl ?_
    refine zg_1_111 rfl d_1008_821 k1 ?_
    refine zu_iconst d_1008_824 zi_1 ?_
    refine zu_stk d_1008_825 rfl rfl ?_
    obtain ⟨k6, h⟩ := h
    refine zp_1_111 (v := ((zs_I S 1007 p0) - (1 : Int32))) rfl d_1008_826 k1 k6 ?_
    generalize e8 : zs_sI S 1007 p0 ((zs_I S 1007 p0) - (1 : Int32)) = S7
    have h := h S7 e8.symm
    have K9 : ∀ b, zs_K S7 b = zs_K S b := zs_Kt e8 (zs_KsI _ _ _ _) (fun _ => rfl)
    refine zu_aload_n d_1008_829 rfl (zs_ra _) ?_
    refine zu_aload_n d_1008_830 rfl (zs_ra _) ?_
    refine zg_1_70 rfl d_1008_831 ((K9 _).trans k1) ?_
    refine zu_aload_n d_1008_834 rfl (zs_ra _) ?_
    refine zg_1_129 rfl d_1008_835 ((K9 _).trans k1) ?_
    obtain ⟨b10, e11, h⟩ := h
    refine zs_stk1 (zs_rfe e11) ?_
    obtain ⟨k12, h⟩ := h
    refine zu_iald (k := 0) d_1008_838 rfl rfl (zs_Ak K9 k12) ?_
    refine zu_aload d_1008_839 rfl (zs_rr _) ?_
    refine zu_iload_n d_1008_841 rfl ?_
    refine zu_iconst d_1008_842 zi_2 ?_
    refine zu_stk d_1008_843 rfl rfl ?_
    obtain ⟨b13, e14, h⟩ := h
    refine zs_stk1 (zs_rfe e14) ?_
    obtain ⟨k15, h⟩ := h
    refine zu_iald (k := 0) d_1008_844 rfl rfl (zs_Ak K9 k15) ?_
    refine zu_stk d_1008_845 rfl rfl ?_
    refine zu_aload_n d_1008_846 rfl (zs_ra _) ?_
    refine zg_1_36 rfl d_1008_847 ((K9 _).trans k1) ?_
    refine zu_aload_n d_1008_850 rfl (zs_ra _) ?_
    refine zg_1_111 rfl d_1008_851 ((K9 _).trans k1) ?_
    obtain ⟨b16, e17, h⟩ := h
    refine zs_stk1 (zs_rfe e17) ?_
    obtain ⟨k18, h⟩ := h
    refine zu_lald (k := 3) d_1008_854 rfl rfl (zs_Ak K9 k18) ?_
    refine zu_stk d_1008_855 rfl rfl ?_
    refine zu_aload_n d_1008_856 rfl (zs_ra _) ?_
    refine zg_1_39 rfl d_1008_857 ((K9 _).trans k1) ?_
    refine zu_aload_n d_1008_860 rfl (zs_ra _) ?_
    refine zg_1_111 rfl d_1008_861 ((K9 _).trans k1) ?_
    obtain ⟨b19, e20, h⟩ := h
    refine zs_stk1 (zs_rfe e20) ?_
    obtain ⟨k21, h⟩ := h
    refine zu_iald (k := 0) d_1008_864 rfl rfl (zs_Ak K9 k21) ?_
    refine zc_1_292 (x0 := ((zs_i S7 b10 (zs_I S7 1025 p0).toNatClampNeg) + (zs_i S7 b13 (p3 + (2 : Int32)).toNatClampNeg))) (x1 := (((zs_j S7 b16 (zs_I S7 1007 p0).toNatClampNeg)).toInt32)) (x2 := (zs_i S7 b19 (zs_I S7 1007 p0).toNatClampNeg)) hB rfl ((K9 _).trans k1) d_1008_865 (Nat.le_of_ble_eq_true rfl) h (fun S22 h => ?_)
    exact (u_X2_move_868 hB h).weak trivial
  · have h := h.2.1 c5
    show zs_U _ _ _ 84 _ _ _ _
    refine zu_aload_n d_1008_84 rfl (zs_ra _) ?_
    refine zu_dup d_1008_85 rfl ?_
    refine zg_1_198 rfl d_1008_86 k1 ?_
    refine zu_iconst d_1008_89 zi_1 ?_
    refine zu_stk d_1008_90 rfl rfl ?_
    obtain ⟨k24, h⟩ := h
    refine zp_1_198 (v := ((zs_I S 1035 p0) - (1 : Int32))) rfl d_1008_91 k1 k24 ?_
    generalize e26 : zs_sI S 1035 p0 ((zs_I S 1035 p0) - (1 : Int32)) = S25
    have h := h S25 e26.symm
    have K27 : ∀ b, zs_K S25 b = zs_K S b := zs_Kt e26 (zs_KsI _ _ _ _) (fun _ => rfl)
    refine zu_aload_n d_1008_94 rfl (zs_ra _) ?_
    refine zu_dup d_1008_95 rfl ?_
    refine zg_1_141 rfl d_1008_96 ((K27 _).trans k1) ?_
    refine zu_iconst d_1008_99 zi_1 ?_
    refine zu_stk d_1008_100 rfl rfl ?_
    refine zp_1_141 (v := ((zs_I S25 1034 p0) + (1 : Int32))) rfl d_1008_101 ((K27 _).trans k1) k24 ?_
    generalize e29 : zs_sI S25 1034 p0 ((zs_I S25 1034 p0) + (1 : Int32)) = S28
    have h := h S28 e29.symm
    have K30 : ∀ b, zs_K S28 b = zs_K S b := zs_Kt e29 (zs_KsI _ _ _ _) K27
    exact (u_X2_move_104 hB h).weak ⟨rfl, rfl, trivial⟩
  · have h := h.2.2.1 c5
    show zs_U _ _ _ 117 _ _ _ _
    refine zu_aload_n d_1008_117 rfl (zs_ra _) ?_
    refine zu_aload d_1008_118 rfl (zs_rr _) ?_
    refine zu_iload_n d_1008_120 rfl ?_
    refine zu_iconst d_1008_121 zi_2 ?_
    refine zu_stk d_1008_122 rfl rfl ?_
    obtain ⟨b31, e32, h⟩ := h
    refine zs_stk1 (zs_rfe e32) ?_
    obtain ⟨k33, h⟩ := h
    refine zu_iald (k := 0) d_1008_123 rfl rfl k33 ?_
    refine zu_stk d_1008_124 rfl rfl ?_
    refine zc_1_223 (x0 := (((zs_i S b31 (p3 + (2 : Int32)).toNatClampNeg)).toInt64)) hB rfl k1 d_1008_125 (Nat.le_of_ble_eq_true rfl) h (fun S34 h => ?_)
    refine zu_goto (t := 868) d_1008_128 rfl ?_
    exact (u_X2_move_868 hB h).weak trivial
  · have h := h.2.2.2.1 c5
    show zs_U _ _ _ 131 _ _ _ _
    refine zu_aload_n d_1008_131 rfl (zs_ra _) ?_
    refine zu_aload d_1008_132 rfl (zs_rr _) ?_
    refine zu_iload_n d_1008_134 rfl ?_
    refine zu_iconst d_1008_135 zi_3 ?_
    refine zu_stk d_1008_136 rfl rfl ?_
    obtain ⟨b36, e37, h⟩ := h
    refine zs_stk1 (zs_rfe e37) ?_
    obtain ⟨k38, h⟩ := h
    refine zu_iald (k := 0) d_1008_137 rfl rfl k38 ?_
    refine zu_aload d_1008_138 rfl (zs_rr _) ?_
    refine zu_iload_n d_1008_140 rfl ?_
    refine zu_iconst d_1008_141 zi_2 ?_
    refine zu_stk d_1008_142 rfl rfl ?_
    refine zs_stk1 (zs_rfe e37) ?_
    obtain ⟨k39, h⟩ := h
    refine zu_iald (k := 0) d_1008_143 rfl rfl k39 ?_
    refine zu_stk d_1008_144 rfl rfl ?_
    refine zu_iload_n d_1008_145 rfl ?_
    refine zc_1_227 (x0 := ((zs_i S b36 (p3 + (3 : Int32)).toNatClampNeg) - (zs_i S b36 (p3 + (2 : Int32)).toNatClampNeg))) (x1 := p2) hB rfl k1 d_1008_146 (Nat.le_of_ble_eq_true rfl) h (fun v41 S40 h => ?_)
    refine zu_ifne (t := 153) d_1008_149 rfl (fun c42 => ?_) (fun c42 => ?_)
    · have h := h.1 c42
      exact (u_X2_move_153 hB h).weak ⟨rfl, rfl, rfl, trivial⟩
    · have h := h.2 c42
      exact (u_X2_move_152 hB h).weak trivial
  · have h := h.2.2.2.2.1 c5
    show zs_U _ _ _ 207 _ _ _ _
    refine zu_aload_n d_1008_207 rfl (zs_ra _) ?_
    refine zu_aload d_1008_208 rfl (zs_rr _) ?_
    refine zu_iload_n d_1008_210 rfl ?_
    refine zu_iconst d_1008_211 zi_2 ?_
    refine zu_stk d_1008_212 rfl rfl ?_
    obtain ⟨b43, e44, h⟩ := h
    refine zs_stk1 (zs_rfe e44) ?_
    obtain ⟨k45, h⟩ := h
    refine zu_iald (k := 0) d_1008_213 rfl rfl k45 ?_
    refine zu_aload d_1008_214 rfl (zs_rr _) ?_
    refine zu_iload_n d_1008_216 rfl ?_
    refine zu_iconst d_1008_217 zi_3 ?_
    refine zu_stk d_1008_218 rfl rfl ?_
    refine zs_stk1 (zs_rfe e44) ?_
    obtain ⟨k46, h⟩ := h
    refine zu_iald (k := 0) d_1008_219 rfl rfl k46 ?_
    refine zc_1_232 (x0 := (zs_i S b43 (p3 + (2 : Int32)).toNatClampNeg)) (x1 := (zs_i S b43 (p3 + (3 : Int32)).toNatClampNeg)) hB rfl k1 d_1008_220 (Nat.le_of_ble_eq_true rfl) h (fun v48 S47 h => ?_)
    refine zu_istore d_1008_223 (zs_lt zq_1008 rfl) ?_
    refine zs_U.weak (L1 := [(5, .int v48), (0, .ref p0), (1, .int p1), (2, .int p2), (3, .int p3), (4, va_rf (zs_R S 3000 b2))]) ?_ ⟨rfl, zs_gp1 rfl (Or.inl rfl) rfl, zs_gp1 rfl (Or.inl rfl) rfl, zs_gp1 rfl (Or.inl rfl) rfl, zs_gp1 rfl (Or.inl rfl) rfl, zs_gp1 rfl (Or.inl (zs_cat _)) rfl, trivial⟩
    exact (u_X2_move_225 hB h).weak ⟨rfl, rfl, rfl, trivial⟩
  · have h := h.2.2.2.2.2.1 c5
    show zs_U _ _ _ 268 _ _ _ _
    refine zu_aload_n d_1008_268 rfl (zs_ra _) ?_
    refine zu_aload_n d_1008_269 rfl (zs_ra _) ?_
    refine zg_1_107 rfl d_1008_270 k1 ?_
    refine zs_stk0 (zs_rfe e3) ?_
    refine zg_1_239 rfl d_1008_273 k4 ?_
    refine zu_aload d_1008_276 rfl (zs_rr _) ?_
    refine zu_iload_n d_1008_278 rfl ?_
    refine zu_iconst d_1008_279 zi_2 ?_
    refine zu_stk d_1008_280 rfl rfl ?_
    obtain ⟨b49, e50, h⟩ := h
    refine zs_stk1 (zs_rfe e50) ?_
    obtain ⟨k51, h⟩ := h
    refine zu_iald (k := 0) d_1008_281 rfl rfl k51 ?_
    obtain ⟨b52, e53, h⟩ := h
    refine zs_stk1 (zs_rfe e53) ?_
    obtain ⟨k54, h⟩ := h
    refine zc_1_162 (x0 := (zs_i S b49 (p3 + (2 : Int32)).toNatClampNeg)) hB rfl k54 d_1008_282 (Nat.le_of_ble_eq_true rfl) h (fun v56 S55 h => ?_)
    obtain ⟨k57, h⟩ := h
    refine zk_1_91 (o := v56) rfl d_1008_285 k57 ?_
    refine zu_iload_n d_1008_288 rfl ?_
    obtain ⟨k58, h⟩ := h
    refine zc_1_242 (x0 := v56) (x1 := p2) hB rfl k58 d_1008_289 (Nat.le_of_ble_eq_true rfl) h (fun S59 h => ?_)
    exact (u_X2_move_292 hB h).weak trivial
  · have h := h.2.2.2.2.2.2.1 c5
    show zs_U _ _ _ 295 _ _ _ _
    refine zu_aload_n d_1008_295 rfl (zs_ra _) ?_
    refine zg_1_107 rfl d_1008_296 k1 ?_
    refine zs_stk0 (zs_rfe e3) ?_
    refine zg_1_239 rfl d_1008_299 k4 ?_
    refine zu_aload d_1008_302 rfl (zs_rr _) ?_
    refine zu_iload_n d_1008_304 rfl ?_
    refine zu_iconst d_1008_305 zi_2 ?_
    refine zu_stk d_1008_306 rfl rfl ?_
    obtain ⟨b61, e62, h⟩ := h
    refine zs_stk1 (zs_rfe e62) ?_
    obtain ⟨k63, h⟩ := h
    refine zu_iald (k := 0) d_1008_307 rfl rfl k63 ?_
    obtain ⟨b64, e65, h⟩ := h
    refine zs_stk1 (zs_rfe e65) ?_
    obtain ⟨k66, h⟩ := h
    refine zc_1_162 (x0 := (zs_i S b61 (p3 + (2 : Int32)).toNatClampNeg)) hB rfl k66 d_1008_308 (Nat.le_of_ble_eq_true rfl) h (fun v68 S67 h => ?_)
    obtain ⟨k69, h⟩ := h
    refine zk_1_91 (o := v68) rfl d_1008_311 k69 ?_
    refine zu_astore d_1008_314 (zs_rr _) (zs_lt zq_1008 rfl) ?_
    exact (u_X2_move_316 hB h).weak ⟨rfl, rfl, rfl, rfl, rfl, trivial⟩
  · have h := h.2.2.2.2.2.2.2.1 c5
    show zs_U _ _ _ 348 _ _ _ _
    refine zu_aload_n d_1008_348 rfl (zs_ra _) ?_
    refine zg_1_107 rfl d_1008_349 k1 ?_
    refine zs_stk0 (zs_rfe e3) ?_
    refine zg_1_239 rfl d_1008_352 k4 ?_
    refine zu_aload d_1008_355 rfl (zs_rr _) ?_
    refine zu_iload_n d_1008_357 rfl ?_
    refine zu_iconst d_1008_358 zi_2 ?_
    refine zu_stk d_1008_359 rfl rfl ?_
    obtain ⟨b70, e71, h⟩ := h
    refine zs_stk1 (zs_rfe e71) ?_
    obtain ⟨k72, h⟩ := h
    refine zu_iald (k := 0) d_1008_360 rfl rfl k72 ?_
    obtain ⟨b73, e74, h⟩ := h
    refine zs_stk1 (zs_rfe e74) ?_
    obtain ⟨k75, h⟩ := h
    refine zc_1_162 (x0 := (zs_i S b70 (p3 + (2 : Int32)).toNatClampNeg)) hB rfl k75 d_1008_361 (Nat.le_of_ble_eq_true rfl) h (fun v77 S76 h => ?_)
    obtain ⟨k78, h⟩ := h
    refine zk_1_91 (o := v77) rfl d_1008_364 k78 ?_
    refine zu_astore d_1008_367 (zs_rr _) (zs_lt zq_1008 rfl) ?_
    exact (u_X2_move_369 hB h).weak ⟨rfl, rfl, trivial⟩
  · have h := h.2.2.2.2.2.2.2.2.1 c5
    show zs_U _ _ _ 407 _ _ _ _
    refine zu_aload_n d_1008_407 rfl (zs_ra _) ?_
    refine zu_aload_n d_1008_408 rfl (zs_ra _) ?_
    refine zg_1_107 rfl d_1008_409 k1 ?_
    refine zs_stk0 (zs_rfe e3) ?_
    refine zg_1_239 rfl d_1008_412 k4 ?_
    refine zu_aload d_1008_415 rfl (zs_rr _) ?_
    refine zu_iload_n d_1008_417 rfl ?_
    refine zu_iconst d_1008_418 zi_2 ?_
    refine zu_stk d_1008_419 rfl rfl ?_
    obtain ⟨b79, e80, h⟩ := h
    refine zs_stk1 (zs_rfe e80) ?_
    obtain ⟨k81, h⟩ := h
    refine zu_iald (k := 0) d_1008_420 rfl rfl k81 ?_
    obtain ⟨b82, e83, h⟩ := h
    refine zs_stk1 (zs_rfe e83) ?_
    obtain ⟨k84, h⟩ := h
    refine zc_1_162 (x0 := (zs_i S b79 (p3 + (2 : Int32)).toNatClampNeg)) hB rfl k84 d_1008_421 (Nat.le_of_ble_eq_true rfl) h (fun v86 S85 h => ?_)
    obtain ⟨k87, h⟩ := h
    refine zk_1_91 (o := v86) rfl d_1008_424 k87 ?_
    refine zu_iload_n d_1008_427 rfl ?_
    obtain ⟨k88, h⟩ := h
    refine zc_1_262 (x0 := v86) (x1 := p2) hB rfl k88 d_1008_428 (Nat.le_of_ble_eq_true rfl) h (fun S89 h => ?_)
    exact (u_X2_move_431 hB h).weak trivial
  · have h := h.2.2.2.2.2.2.2.2.2.1 c5
    show zs_U _ _ _ 434 _ _ _ _
    refine zu_aload_n d_1008_434 rfl (zs_ra _) ?_
    refine zg_1_36 rfl d_1008_435 k1 ?_
    refine zu_aload_n d_1008_438 rfl (zs_ra _) ?_
    refine zu_dup d_1008_439 rfl ?_
    refine zg_1_111 rfl d_1008_440 k1 ?_
    refine zu_iconst d_1008_443 zi_1 ?_
    refine zu_stk d_1008_444 rfl rfl ?_
    refine zu_dup_x1 d_1008_445 rfl rfl ?_
    obtain ⟨k91, h⟩ := h
    refine zp_1_111 (v := ((zs_I S 1007 p0) - (1 : Int32))) rfl d_1008_446 k1 k91 ?_
    generalize e93 : zs_sI S 1007 p0 ((zs_I S 1007 p0) - (1 : Int32)) = S92
    have h := h S92 e93.symm
    have K94 : ∀ b, zs_K S92 b = zs_K S b := zs_Kt e93 (zs_KsI _ _ _ _) (fun _ => rfl)
    obtain ⟨b95, e96, h⟩ := h
    refine zs_stk1 (zs_rfe e96) ?_
    obtain ⟨k97, h⟩ := h
    refine zu_lald (k := 3) d_1008_449 rfl rfl (zs_Ak K94 k97) ?_
    refine zu_stk d_1008_450 rfl rfl ?_
    refine zu_istore d_1008_451 (zs_lt zq_1008 rfl) ?_
    exact (u_X2_move_453 hB h).weak ⟨rfl, rfl, rfl, rfl, rfl, trivial⟩
  · have h := h.2.2.2.2.2.2.2.2.2.2.1 c5
    show zs_U _ _ _ 514 _ _ _ _
    refine zu_aload_n d_1008_514 rfl (zs_ra _) ?_
    refine zu_dup d_1008_515 rfl ?_
    refine zg_1_111 rfl d_1008_516 k1 ?_
    refine zu_iconst d_1008_519 zi_1 ?_
    refine zu_stk d_1008_520 rfl rfl ?_
    obtain ⟨k98, h⟩ := h
    refine zp_1_111 (v := ((zs_I S 1007 p0) - (1 : Int32))) rfl d_1008_521 k1 k98 ?_
    generalize e100 : zs_sI S 1007 p0 ((zs_I S 1007 p0) - (1 : Int32)) = S99
    have h := h S99 e100.symm
    have K101 : ∀ b, zs_K S99 b = zs_K S b := zs_Kt e100 (zs_KsI _ _ _ _) (fun _ => rfl)
    refine zu_aload_n d_1008_524 rfl (zs_ra _) ?_
    refine zu_aload_n d_1008_525 rfl (zs_ra _) ?_
    refine zg_1_36 rfl d_1008_526 ((K101 _).trans k1) ?_
    refine zu_aload_n d_1008_529 rfl (zs_ra _) ?_
    refine zg_1_111 rfl d_1008_530 ((K101 _).trans k1) ?_
    obtain ⟨b102, e103, h⟩ := h
    refine zs_stk1 (zs_rfe e103) ?_
    obtain ⟨k104, h⟩ := h
    refine zu_lald (k := 3) d_1008_533 rfl rfl (zs_Ak K101 k104) ?_
    refine zu_stk d_1008_534 rfl rfl ?_
    refine zu_aload_n d_1008_535 rfl (zs_ra _) ?_
    refine zg_1_39 rfl d_1008_536 ((K101 _).trans k1) ?_
    refine zu_aload_n d_1008_539 rfl (zs_ra _) ?_
    refine zg_1_111 rfl d_1008_540 ((K101 _).trans k1) ?_
    obtain ⟨b105, e106, h⟩ := h
    refine zs_stk1 (zs_rfe e106) ?_
    obtain ⟨k107, h⟩ := h
    refine zu_iald (k := 0) d_1008_543 rfl rfl (zs_Ak K101 k107) ?_
    refine zu_aload_n d_1008_544 rfl (zs_ra _) ?_
    refine zg_1_107 rfl d_1008_545 ((K101 _).trans k1) ?_
    obtain ⟨b108, e109, h⟩ := h
    refine zs_stk0 (zs_rfe e109) ?_
    obtain ⟨k110, h⟩ := h
    refine zg_1_239 rfl d_1008_548 ((K101 _).trans k110) ?_
    refine zu_aload d_1008_551 rfl (zs_rr _) ?_
    refine zu_iload_n d_1008_553 rfl ?_
    refine zu_iconst d_1008_554 zi_2 ?_
    refine zu_stk d_1008_555 rfl rfl ?_
    obtain ⟨b111, e112, h⟩ := h
    refine zs_stk1 (zs_rfe e112) ?_
    obtain ⟨k113, h⟩ := h
    refine zu_iald (k := 0) d_1008_556 rfl rfl (zs_Ak K101 k113) ?_
    obtain ⟨b114, e115, h⟩ := h
    refine zs_stk1 (zs_rfe e115) ?_
    obtain ⟨k116, h⟩ := h
    refine zc_1_162 (x0 := (zs_i S99 b111 (p3 + (2 : Int32)).toNatClampNeg)) hB rfl ((K101 _).trans k116) d_1008_557 (Nat.le_of_ble_eq_true rfl) h (fun v118 S117 h => ?_)
    obtain ⟨k119, h⟩ := h
    refine zk_1_91 (o := v118) rfl d_1008_560 k119 ?_
    refine zu_iload_n d_1008_563 rfl ?_
    obtain ⟨k120, h⟩ := h
    refine zc_1_269 (x0 := (((zs_j S99 b102 (zs_I S99 1007 p0).toNatClampNeg)).toInt32)) (x1 := (zs_i S99 b105 (zs_I S99 1007 p0).toNatClampNeg)) (x2 := v118) (x3 := p2) hB rfl k120 d_1008_564 (Nat.le_of_ble_eq_true rfl) h (fun S121 h => ?_)
    exact (u_X2_move_567 hB h).weak trivial
  · have h := h.2.2.2.2.2.2.2.2.2.2.2.1 c5
    show zs_U _ _ _ 570 _ _ _ _
    refine zu_aload_n d_1008_570 rfl (zs_ra _) ?_
    refine zu_dup d_1008_571 rfl ?_
    refine zg_1_111 rfl d_1008_572 k1 ?_
    refine zu_iconst d_1008_575 zi_1 ?_
    refine zu_stk d_1008_576 rfl rfl ?_
    obtain ⟨k123, h⟩ := h
    refine zp_1_111 (v := ((zs_I S 1007 p0) - (1 : Int32))) rfl d_1008_577 k1 k123 ?_
    generalize e125 : zs_sI S 1007 p0 ((zs_I S 1007 p0) - (1 : Int32)) = S124
    have h := h S124 e125.symm
    have K126 : ∀ b, zs_K S124 b = zs_K S b := zs_Kt e125 (zs_KsI _ _ _ _) (fun _ => rfl)
    refine zu_aload_n d_1008_580 rfl (zs_ra _) ?_
    refine zu_aload_n d_1008_581 rfl (zs_ra _) ?_
    refine zg_1_10 rfl d_1008_582 ((K126 _).trans k1) ?_
    refine zu_aload_n d_1008_585 rfl (zs_ra _) ?_
    refine zg_1_39 rfl d_1008_586 ((K126 _).trans k1) ?_
    refine zu_aload_n d_1008_589 rfl (zs_ra _) ?_
    refine zg_1_111 rfl d_1008_590 ((K126 _).trans k1) ?_
    obtain ⟨b127, e128, h⟩ := h
    refine zs_stk1 (zs_rfe e128) ?_
    obtain ⟨k129, h⟩ := h
    refine zu_iald (k := 0) d_1008_593 rfl rfl (zs_Ak K126 k129) ?_
    refine zu_aload d_1008_594 rfl (zs_rr _) ?_
    refine zu_iload_n d_1008_596 rfl ?_
    refine zu_iconst d_1008_597 zi_2 ?_
    refine zu_stk d_1008_598 rfl rfl ?_
    obtain ⟨b130, e131, h⟩ := h
    refine zs_stk1 (zs_rfe e131) ?_
    obtain ⟨k132, h⟩ := h
    refine zu_iald (k := 0) d_1008_599 rfl rfl (zs_Ak K126 k132) ?_
    refine zu_stk d_1008_600 rfl rfl ?_
    obtain ⟨b133, e134, h⟩ := h
    refine zs_stk1 (zs_rfe e134) ?_
    obtain ⟨k135, h⟩ := h
    refine zu_lald (k := 3) d_1008_601 rfl rfl (zs_Ak K126 k135) ?_
    refine zc_1_223 (x0 := (zs_j S124 b133 ((zs_i S124 b127 (zs_I S124 1007 p0).toNatClampNeg) + (zs_i S124 b130 (p3 + (2 : Int32)).toNatClampNeg)).toNatClampNeg)) hB rfl ((K126 _).trans k1) d_1008_602 (Nat.le_of_ble_eq_true rfl) h (fun S136 h => ?_)
    exact (u_X2_move_605 hB h).weak trivial
  · have h := h.2.2.2.2.2.2.2.2.2.2.2.2.1 c5
    show zs_U _ _ _ 608 _ _ _ _
    refine zu_aload_n d_1008_608 rfl (zs_ra _) ?_
    refine zu_dup d_1008_609 rfl ?_
    refine zg_1_111 rfl d_1008_610 k1 ?_
    refine zu_iconst d_1008_613 zi_2 ?_
    refine zu_stk d_1008_614 rfl rfl ?_
    obtain ⟨k138, h⟩ := h
    refine zp_1_111 (v := ((zs_I S 1007 p0) - (2 : Int32))) rfl d_1008_615 k1 k138 ?_
    generalize e140 : zs_sI S 1007 p0 ((zs_I S 1007 p0) - (2 : Int32)) = S139
    have h := h S139 e140.symm
    have K141 : ∀ b, zs_K S139 b = zs_K S b := zs_Kt e140 (zs_KsI _ _ _ _) (fun _ => rfl)
    refine zu_aload_n d_1008_618 rfl (zs_ra _) ?_
    refine zu_aload_n d_1008_619 rfl (zs_ra _) ?_
    refine zg_1_36 rfl d_1008_620 ((K141 _).trans k1) ?_
    refine zu_aload_n d_1008_623 rfl (zs_ra _) ?_
    refine zg_1_111 rfl d_1008_624 ((K141 _).trans k1) ?_
    obtain ⟨b142, e143, h⟩ := h
    refine zs_stk1 (zs_rfe e143) ?_
    obtain ⟨k144, h⟩ := h
    refine zu_lald (k := 3) d_1008_627 rfl rfl (zs_Ak K141 k144) ?_
    refine zu_stk d_1008_628 rfl rfl ?_
    refine zu_aload_n d_1008_629 rfl (zs_ra _) ?_
    refine zg_1_39 rfl d_1008_630 ((K141 _).trans k1) ?_
    refine zu_aload_n d_1008_633 rfl (zs_ra _) ?_
    refine zg_1_111 rfl d_1008_634 ((K141 _).trans k1) ?_
    obtain ⟨b145, e146, h⟩ := h
    refine zs_stk1 (zs_rfe e146) ?_
    obtain ⟨k147, h⟩ := h
    refine zu_iald (k := 0) d_1008_637 rfl rfl (zs_Ak K141 k147) ?_
    refine zu_aload_n d_1008_638 rfl (zs_ra _) ?_
    refine zg_1_107 rfl d_1008_639 ((K141 _).trans k1) ?_
    obtain ⟨b148, e149, h⟩ := h
    refine zs_stk0 (zs_rfe e149) ?_
    obtain ⟨k150, h⟩ := h
    refine zg_1_239 rfl d_1008_642 ((K141 _).trans k150) ?_
    refine zu_aload d_1008_645 rfl (zs_rr _) ?_
    refine zu_iload_n d_1008_647 rfl ?_
    refine zu_iconst d_1008_648 zi_2 ?_
    refine zu_stk d_1008_649 rfl rfl ?_
    obtain ⟨b151, e152, h⟩ := h
    refine zs_stk1 (zs_rfe e152) ?_
    obtain ⟨k153, h⟩ := h
    refine zu_iald (k := 0) d_1008_650 rfl rfl (zs_Ak K141 k153) ?_
    obtain ⟨b154, e155, h⟩ := h
    refine zs_stk1 (zs_rfe e155) ?_
    obtain ⟨k156, h⟩ := h
    refine zc_1_162 (x0 := (zs_i S139 b151 (p3 + (2 : Int32)).toNatClampNeg)) hB rfl ((K141 _).trans k156) d_1008_651 (Nat.le_of_ble_eq_true rfl) h (fun v158 S157 h => ?_)
    obtain ⟨k159, h⟩ := h
    refine zk_1_91 (o := v158) rfl d_1008_654 k159 ?_
    refine zu_aload_n d_1008_657 rfl (zs_ra _) ?_
    obtain ⟨k160, h⟩ := h
    refine zg_1_36 rfl d_1008_658 k160 ?_
    refine zu_aload_n d_1008_661 rfl (zs_ra _) ?_
    refine zg_1_111 rfl d_1008_662 k160 ?_
    refine zu_iconst d_1008_665 zi_1 ?_
    refine zu_stk d_1008_666 rfl rfl ?_
    obtain ⟨b161, e162, h⟩ := h
    refine zs_stk1 (zs_rfe e162) ?_
    obtain ⟨k163, h⟩ := h
    refine zu_lald (k := 3) d_1008_667 rfl rfl k163 ?_
    refine zu_iload_n d_1008_668 rfl ?_
    refine zc_1_273 (x0 := (((zs_j S139 b142 (zs_I S139 1007 p0).toNatClampNeg)).toInt32)) (x1 := (zs_i S139 b145 (zs_I S139 1007 p0).toNatClampNeg)) (x2 := v158) (x3 := (zs_j S157 b161 ((zs_I S157 1007 p0) + (1 : Int32)).toNatClampNeg)) (x4 := p2) hB rfl k160 d_1008_669 (Nat.le_of_ble_eq_true rfl) h (fun v165 S164 h => ?_)
    exact (u_X2_move_672 hB h).weak trivial
  · have h := h.2.2.2.2.2.2.2.2.2.2.2.2.2.1 c5
    show zs_U _ _ _ 676 _ _ _ _
    refine zu_aload_n d_1008_676 rfl (zs_ra _) ?_
    refine zu_dup d_1008_677 rfl ?_
    refine zg_1_111 rfl d_1008_678 k1 ?_
    refine zu_iconst d_1008_681 zi_1 ?_
    refine zu_stk d_1008_682 rfl rfl ?_
    obtain ⟨k166, h⟩ := h
    refine zp_1_111 (v := ((zs_I S 1007 p0) - (1 : Int32))) rfl d_1008_683 k1 k166 ?_
    generalize e168 : zs_sI S 1007 p0 ((zs_I S 1007 p0) - (1 : Int32)) = S167
    have h := h S167 e168.symm
    have K169 : ∀ b, zs_K S167 b = zs_K S b := zs_Kt e168 (zs_KsI _ _ _ _) (fun _ => rfl)
    refine zu_aload_n d_1008_686 rfl (zs_ra _) ?_
    refine zu_aload_n d_1008_687 rfl (zs_ra _) ?_
    refine zg_1_36 rfl d_1008_688 ((K169 _).trans k1) ?_
    refine zu_aload_n d_1008_691 rfl (zs_ra _) ?_
    refine zg_1_111 rfl d_1008_692 ((K169 _).trans k1) ?_
    obtain ⟨b170, e171, h⟩ := h
    refine zs_stk1 (zs_rfe e171) ?_
    obtain ⟨k172, h⟩ := h
    refine zu_lald (k := 3) d_1008_695 rfl rfl (zs_Ak K169 k172) ?_
    refine zu_stk d_1008_696 rfl rfl ?_
    refine zu_aload_n d_1008_697 rfl (zs_ra _) ?_
    refine zg_1_39 rfl d_1008_698 ((K169 _).trans k1) ?_
    refine zu_aload_n d_1008_701 rfl (zs_ra _) ?_
    refine zg_1_111 rfl d_1008_702 ((K169 _).trans k1) ?_
    obtain ⟨b173, e174, h⟩ := h
    refine zs_stk1 (zs_rfe e174) ?_
    obtain ⟨k175, h⟩ := h
    refine zu_iald (k := 0) d_1008_705 rfl rfl (zs_Ak K169 k175) ?_
    refine zu_aload_n d_1008_706 rfl (zs_ra _) ?_
    refine zg_1_107 rfl d_1008_707 ((K169 _).trans k1) ?_
    obtain ⟨b176, e177, h⟩ := h
    refine zs_stk0 (zs_rfe e177) ?_
    obtain ⟨k178, h⟩ := h
    refine zg_1_239 rfl d_1008_710 ((K169 _).trans k178) ?_
    refine zu_aload d_1008_713 rfl (zs_rr _) ?_
    refine zu_iload_n d_1008_715 rfl ?_
    refine zu_iconst d_1008_716 zi_2 ?_
    refine zu_stk d_1008_717 rfl rfl ?_
    obtain ⟨b179, e180, h⟩ := h
    refine zs_stk1 (zs_rfe e180) ?_
    obtain ⟨k181, h⟩ := h
    refine zu_iald (k := 0) d_1008_718 rfl rfl (zs_Ak K169 k181) ?_
    obtain ⟨b182, e183, h⟩ := h
    refine zs_stk1 (zs_rfe e183) ?_
    obtain ⟨k184, h⟩ := h
    refine zc_1_162 (x0 := (zs_i S167 b179 (p3 + (2 : Int32)).toNatClampNeg)) hB rfl ((K169 _).trans k184) d_1008_719 (Nat.le_of_ble_eq_true rfl) h (fun v186 S185 h => ?_)
    obtain ⟨k187, h⟩ := h
    refine zk_1_91 (o := v186) rfl d_1008_722 k187 ?_
    refine zu_iload_n d_1008_725 rfl ?_
    obtain ⟨k188, h⟩ := h
    refine zc_1_277 (x0 := (((zs_j S167 b170 (zs_I S167 1007 p0).toNatClampNeg)).toInt32)) (x1 := (zs_i S167 b173 (zs_I S167 1007 p0).toNatClampNeg)) (x2 := v186) (x3 := p2) hB rfl k188 d_1008_726 (Nat.le_of_ble_eq_true rfl) h (fun v190 S189 h => ?_)
    exact (u_X2_move_729 hB h).weak trivial
  · have h := h.2.2.2.2.2.2.2.2.2.2.2.2.2.2.1 c5
    show zs_U _ _ _ 733 _ _ _ _
    refine zu_aload_n d_1008_733 rfl (zs_ra _) ?_
    refine zu_dup d_1008_734 rfl ?_
    refine zg_1_111 rfl d_1008_735 k1 ?_
    refine zu_iconst d_1008_738 zi_2 ?_
    refine zu_stk d_1008_739 rfl rfl ?_
    obtain ⟨k191, h⟩ := h
    refine zp_1_111 (v := ((zs_I S 1007 p0) - (2 : Int32))) rfl d_1008_740 k1 k191 ?_
    generalize e193 : zs_sI S 1007 p0 ((zs_I S 1007 p0) - (2 : Int32)) = S192
    have h := h S192 e193.symm
    have K194 : ∀ b, zs_K S192 b = zs_K S b := zs_Kt e193 (zs_KsI _ _ _ _) (fun _ => rfl)
    refine zu_aload_n d_1008_743 rfl (zs_ra _) ?_
    refine zu_aload_n d_1008_744 rfl (zs_ra _) ?_
    refine zg_1_107 rfl d_1008_745 ((K194 _).trans k1) ?_
    obtain ⟨b195, e196, h⟩ := h
    refine zs_stk0 (zs_rfe e196) ?_
    obtain ⟨k197, h⟩ := h
    refine zg_1_239 rfl d_1008_748 ((K194 _).trans k197) ?_
    refine zu_aload d_1008_751 rfl (zs_rr _) ?_
    refine zu_iload_n d_1008_753 rfl ?_
    refine zu_iconst d_1008_754 zi_2 ?_
    refine zu_stk d_1008_755 rfl rfl ?_
    obtain ⟨b198, e199, h⟩ := h
    refine zs_stk1 (zs_rfe e199) ?_
    obtain ⟨k200, h⟩ := h
    refine zu_iald (k := 0) d_1008_756 rfl rfl (zs_Ak K194 k200) ?_
    obtain ⟨b201, e202, h⟩ := h
    refine zs_stk1 (zs_rfe e202) ?_
    obtain ⟨k203, h⟩ := h
    refine zc_1_162 (x0 := (zs_i S192 b198 (p3 + (2 : Int32)).toNatClampNeg)) hB rfl ((K194 _).trans k203) d_1008_757 (Nat.le_of_ble_eq_true rfl) h (fun v205 S204 h => ?_)
    obtain ⟨k206, h⟩ := h
    refine zk_1_91 (o := v205) rfl d_1008_760 k206 ?_
    refine zu_aload_n d_1008_763 rfl (zs_ra _) ?_
    obtain ⟨k207, h⟩ := h
    refine zg_1_107 rfl d_1008_764 k207 ?_
    obtain ⟨b208, e209, h⟩ := h
    refine zs_stk0 (zs_rfe e209) ?_
    obtain ⟨k210, h⟩ := h
    refine zg_1_250 rfl d_1008_767 k210 ?_
    refine zu_aload d_1008_770 rfl (zs_rr _) ?_
    refine zu_iload_n d_1008_772 rfl ?_
    refine zu_iconst d_1008_773 zi_3 ?_
    refine zu_stk d_1008_774 rfl rfl ?_
    refine zs_stk1 (zs_rfe e199) ?_
    obtain ⟨k211, h⟩ := h
    refine zu_iald (k := 0) d_1008_775 rfl rfl k211 ?_
    obtain ⟨b212, e213, h⟩ := h
    refine zs_stk1 (zs_rfe e213) ?_
    obtain ⟨k214, h⟩ := h
    refine zc_1_162 (x0 := (zs_i S204 b198 (p3 + (3 : Int32)).toNatClampNeg)) hB rfl k214 d_1008_776 (by simp only [List.map_cons, List.map_nil, List.sum_cons, List.sum_nil, zs_cat, zs_cI, zs_cJ, zs_cA]; exact Nat.le_of_ble_eq_true rfl) h (fun v216 S215 h => ?_)
    obtain ⟨k217, h⟩ := h
    refine zk_1_252 (o := v216) rfl d_1008_779 k217 ?_
    obtain ⟨b218, e219, h⟩ := h
    refine zs_stk0 (zs_rfe e219) ?_
    obtain ⟨k220, h⟩ := h
    refine zg_1_281 rfl d_1008_782 k220 ?_
    refine zu_iload_n d_1008_785 rfl ?_
    obtain ⟨k221, h⟩ := h
    refine zc_1_285 (x0 := v205) (x1 := (zs_R S215 12003 b218)) (x2 := p2) hB rfl k221 d_1008_786 (Nat.le_of_ble_eq_true rfl) h (fun S222 h => ?_)
    exact (u_X2_move_789 hB h).weak trivial
  · have h := h.2.2.2.2.2.2.2.2.2.2.2.2.2.2.2 c5
    show zs_U _ _ _ 792 _ _ _ _
    refine zu_aload_n d_1008_792 rfl (zs_ra _) ?_
    refine zu_aload_n d_1008_793 rfl (zs_ra _) ?_
    refine zg_1_107 rfl d_1008_794 k1 ?_
    refine zs_stk0 (zs_rfe e3) ?_
    refine zg_1_239 rfl d_1008_797 k4 ?_
    refine zu_aload d_1008_800 rfl (zs_rr _) ?_
    refine zu_iload_n d_1008_802 rfl ?_
    refine zu_iconst d_1008_803 zi_2 ?_
    refine zu_stk d_1008_804 rfl rfl ?_
    obtain ⟨b224, e225, h⟩ := h
    refine zs_stk1 (zs_rfe e225) ?_
    obtain ⟨k226, h⟩ := h
    refine zu_iald (k := 0) d_1008_805 rfl rfl k226 ?_
    obtain ⟨b227, e228, h⟩ := h
    refine zs_stk1 (zs_rfe e228) ?_
    obtain ⟨k229, h⟩ := h
    refine zc_1_162 (x0 := (zs_i S b224 (p3 + (2 : Int32)).toNatClampNeg)) hB rfl k229 d_1008_806 (Nat.le_of_ble_eq_true rfl) h (fun v231 S230 h => ?_)
    obtain ⟨k232, h⟩ := h
    refine zk_1_91 (o := v231) rfl d_1008_809 k232 ?_
    refine zu_iload_n d_1008_812 rfl ?_
    obtain ⟨k233, h⟩ := h
    refine zc_1_289 (x0 := v231) (x1 := p2) hB rfl k233 d_1008_813 (Nat.le_of_ble_eq_true rfl) h (fun S234 h => ?_)
    exact (u_X2_move_816 hB h).weak trivial
/-! SchemaPascal$Machine.push(J)V -/
theorem zm_1009 {σ : Nat → Nat} {n0 : Nat} {bf : ab_B} : ab_code (zx σ n0 bf).1 1009 = prog_5_method_9_code := rfl
theorem zq_1009 {σ : Nat → Nat} {n0 : Nat} {bf : ab_B} : ab_maxL (zx σ n0 bf).1 1009 = 3 := rfl
theorem zr_1009 {σ : Nat → Nat} {n0 : Nat} {bf : ab_B} : ab_ret (zx σ n0 bf).1 1009 = (Option.none : Option Jvm.ClassFile.FieldType) := rfl
theorem d_1009_0 {σ : Nat → Nat} {n0 : Nat} {bf : ab_B} : decode (ab_code (zx σ n0 bf).1 1009) 0 = .ok (.aload_n 0, 1) := zd zm_1009 (by decide +kernel)
theorem d_1009_1 {σ : Nat → Nat} {n0 : Nat} {bf : ab_B} : decode (ab_code (zx σ n0 bf).1 1009) 1 = .ok (.getfield 36, 3) := zd zm_1009 (by decide +kernel)
theorem d_1009_4 {σ : Nat → Nat} {n0 : Nat} {bf : ab_B} : decode (ab_code (zx σ n0 bf).1 1009) 4 = .ok (.aload_n 0, 1) := zd zm_1009 (by decide +kernel)
theorem d_1009_5 {σ : Nat → Nat} {n0 : Nat} {bf : ab_B} : decode (ab_code (zx σ n0 bf).1 1009) 5 = .ok (.dup, 1) := zd zm_1009 (by decide +kernel)
theorem d_1009_6 {σ : Nat → Nat} {n0 : Nat} {bf : ab_B} : decode (ab_code (zx σ n0 bf).1 1009) 6 = .ok (.getfield 111, 3) := zd zm_1009 (by decide +kernel)
theorem d_1009_9 {σ : Nat → Nat} {n0 : Nat} {bf : ab_B} : decode (ab_code (zx σ n0 bf).1 1009) 9 = .ok (.dup_x1, 1) := zd zm_1009 (by decide +kernel)
theorem d_1009_10 {σ : Nat → Nat} {n0 : Nat} {bf : ab_B} : decode (ab_code (zx σ n0 bf).1 1009) 10 = .ok (.iconst 1, 1) := zd zm_1009 (by decide +kernel)
theorem d_1009_11 {σ : Nat → Nat} {n0 : Nat} {bf : ab_B} : decode (ab_code (zx σ n0 bf).1 1009) 11 = .ok (.iadd, 1) := zd zm_1009 (by decide +kernel)
theorem d_1009_12 {σ : Nat → Nat} {n0 : Nat} {bf : ab_B} : decode (ab_code (zx σ n0 bf).1 1009) 12 = .ok (.putfield 111, 3) := zd zm_1009 (by decide +kernel)
theorem d_1009_15 {σ : Nat → Nat} {n0 : Nat} {bf : ab_B} : decode (ab_code (zx σ n0 bf).1 1009) 15 = .ok (.lload_n 1, 1) := zd zm_1009 (by decide +kernel)
theorem d_1009_16 {σ : Nat → Nat} {n0 : Nat} {bf : ab_B} : decode (ab_code (zx σ n0 bf).1 1009) 16 = .ok (.lastore, 1) := zd zm_1009 (by decide +kernel)
theorem d_1009_17 {σ : Nat → Nat} {n0 : Nat} {bf : ab_B} : decode (ab_code (zx σ n0 bf).1 1009) 17 = .ok (.return_, 1) := zd zm_1009 (by decide +kernel)
def w_X2_push (X : zs_X) (d : Nat) (p0 : Nat) (p1 : Int64) (S : zs_T) (Q : zs_Q) : Prop :=
  (zs_K S p0 = some (.inl 1) ∧ ab_n0 X.1 ≤ p0 ∧ ∀ S3, S3 = zs_sI S 1007 p0 ((zs_I S 1007 p0) + (1 : Int32)) → ∃ b6, (zs_R S 1005 p0) = some b6 ∧ zs_A S b6 3 (zs_I S 1007 p0) ∧ ab_n0 X.1 ≤ b6 ∧ ∀ S10, S10 = zs_sj S3 b6 (zs_I S 1007 p0).toNatClampNeg p1 → Q (.returned none) S10)
theorem u_X2_push {σ : Nat → Nat} {n0 : Nat} {bf : ab_B} {d : Nat} {p0 : Nat} {p1 : Int64} {S : zs_T} {Q : zs_Q} (hB : zt_B bf) (hd : 1 ≤ d) (h : w_X2_push (zx σ n0 bf) (d - 1) p0 p1 S Q) : zs_C (zx σ n0 bf) d 1009 [.ref p0, .long p1] S Q := by
  have hL : lv_args 0 [.ref p0, .long p1] = [(0, .ref p0), (1, .long p1)] := rfl
  refine zs_C.of1 (hB.2 1009 (by decide) (by decide)) hd (by rw [hL]; exact zs_sub_self _ (by exact ⟨rfl, rfl, trivial⟩)) ?_
  rw [hL]
  clear hL
  unfold w_X2_push at h
  refine zu_aload_n d_1009_0 rfl (zs_ra _) ?_
  obtain ⟨k1, h⟩ := h
  refine zg_1_36 rfl d_1009_1 k1 ?_
  refine zu_aload_n d_1009_4 rfl (zs_ra _) ?_
  refine zu_dup d_1009_5 rfl ?_
  refine zg_1_111 rfl d_1009_6 k1 ?_
  refine zu_dup_x1 d_1009_9 rfl rfl ?_
  refine zu_iconst d_1009_10 zi_1 ?_
  refine zu_stk d_1009_11 rfl rfl ?_
  obtain ⟨k2, h⟩ := h
  refine zp_1_111 (v := ((zs_I S 1007 p0) + (1 : Int32))) rfl d_1009_12 k1 k2 ?_
  generalize e4 : zs_sI S 1007 p0 ((zs_I S 1007 p0) + (1 : Int32)) = S3
  have h := h S3 e4.symm
  have K5 : ∀ b, zs_K S3 b = zs_K S b := zs_Kt e4 (zs_KsI _ _ _ _) (fun _ => rfl)
  refine zu_lload_n d_1009_15 rfl ?_
  obtain ⟨b6, e7, h⟩ := h
  refine zs_stk2 (zs_rfe e7) ?_
  obtain ⟨k8, h⟩ := h
  obtain ⟨k9, h⟩ := h
  refine zu_last (k := 3) d_1009_16 rfl rfl k9 (zs_Ak K5 k8) ?_
  generalize e11 : zs_sj S3 b6 (zs_I S 1007 p0).toNatClampNeg p1 = S10
  have h := h S10 e11.symm
  have K12 : ∀ b, zs_K S10 b = zs_K S b := zs_Kt e11 (zs_Ksj _ _ _ _) K5
  exact zu_vret d_1009_17 zr_1009 h
/-! SchemaPascal$Machine.openText(II)Z -/
theorem zm_1010 {σ : Nat → Nat} {n0 : Nat} {bf : ab_B} : ab_code (zx σ n0 bf).1 1010 = prog_5_method_18_code := rfl
theorem zq_1010 {σ : Nat → Nat} {n0 : Nat} {bf : ab_B} : ab_maxL (zx σ n0 bf).1 1010 = 3 := rfl
theorem zr_1010 {σ : Nat → Nat} {n0 : Nat} {bf : ab_B} : ab_ret (zx σ n0 bf).1 1010 = (Option.some Jvm.ClassFile.FieldType.boolean) := rfl
theorem d_1010_0 {σ : Nat → Nat} {n0 : Nat} {bf : ab_B} : decode (ab_code (zx σ n0 bf).1 1010) 0 = .ok (.aload_n 0, 1) := zd zm_1010 (by decide +kernel)
theorem d_1010_1 {σ : Nat → Nat} {n0 : Nat} {bf : ab_B} : decode (ab_code (zx σ n0 bf).1 1010) 1 = .ok (.getfield 117, 3) := zd zm_1010 (by decide +kernel)
theorem d_1010_4 {σ : Nat → Nat} {n0 : Nat} {bf : ab_B} : decode (ab_code (zx σ n0 bf).1 1010) 4 = .ok (.iload_n 1, 1) := zd zm_1010 (by decide +kernel)
theorem d_1010_5 {σ : Nat → Nat} {n0 : Nat} {bf : ab_B} : decode (ab_code (zx σ n0 bf).1 1010) 5 = .ok (.iadd, 1) := zd zm_1010 (by decide +kernel)
theorem d_1010_6 {σ : Nat → Nat} {n0 : Nat} {bf : ab_B} : decode (ab_code (zx σ n0 bf).1 1010) 6 = .ok (.sipush 20000, 3) := zd zm_1010 (by decide +kernel)
theorem d_1010_9 {σ : Nat → Nat} {n0 : Nat} {bf : ab_B} : decode (ab_code (zx σ n0 bf).1 1010) 9 = .ok (.if_icmp .le 11, 3) := zd zm_1010 (by decide +kernel)
theorem d_1010_12 {σ : Nat → Nat} {n0 : Nat} {bf : ab_B} : decode (ab_code (zx σ n0 bf).1 1010) 12 = .ok (.aload_n 0, 1) := zd zm_1010 (by decide +kernel)
theorem d_1010_13 {σ : Nat → Nat} {n0 : Nat} {bf : ab_B} : decode (ab_code (zx σ n0 bf).1 1010) 13 = .ok (.bipush 11, 2) := zd zm_1010 (by decide +kernel)
theorem d_1010_15 {σ : Nat → Nat} {n0 : Nat} {bf : ab_B} : decode (ab_code (zx σ n0 bf).1 1010) 15 = .ok (.iload_n 2, 1) := zd zm_1010 (by decide +kernel)
theorem d_1010_16 {σ : Nat → Nat} {n0 : Nat} {bf : ab_B} : decode (ab_code (zx σ n0 bf).1 1010) 16 = .ok (.invokevirtual 194, 3) := zd zm_1010 (by decide +kernel)
theorem d_1010_19 {σ : Nat → Nat} {n0 : Nat} {bf : ab_B} : decode (ab_code (zx σ n0 bf).1 1010) 19 = .ok (.ireturn, 1) := zd zm_1010 (by decide +kernel)
theorem d_1010_20 {σ : Nat → Nat} {n0 : Nat} {bf : ab_B} : decode (ab_code (zx σ n0 bf).1 1010) 20 = .ok (.aload_n 0, 1) := zd zm_1010 (by decide +kernel)
theorem d_1010_21 {σ : Nat → Nat} {n0 : Nat} {bf : ab_B} : decode (ab_code (zx σ n0 bf).1 1010) 21 = .ok (.getfield 46, 3) := zd zm_1010 (by decide +kernel)
theorem d_1010_24 {σ : Nat → Nat} {n0 : Nat} {bf : ab_B} : decode (ab_code (zx σ n0 bf).1 1010) 24 = .ok (.aload_n 0, 1) := zd zm_1010 (by decide +kernel)
theorem d_1010_25 {σ : Nat → Nat} {n0 : Nat} {bf : ab_B} : decode (ab_code (zx σ n0 bf).1 1010) 25 = .ok (.dup, 1) := zd zm_1010 (by decide +kernel)
theorem d_1010_26 {σ : Nat → Nat} {n0 : Nat} {bf : ab_B} : decode (ab_code (zx σ n0 bf).1 1010) 26 = .ok (.getfield 114, 3) := zd zm_1010 (by decide +kernel)
theorem d_1010_29 {σ : Nat → Nat} {n0 : Nat} {bf : ab_B} : decode (ab_code (zx σ n0 bf).1 1010) 29 = .ok (.dup_x1, 1) := zd zm_1010 (by decide +kernel)
theorem d_1010_30 {σ : Nat → Nat} {n0 : Nat} {bf : ab_B} : decode (ab_code (zx σ n0 bf).1 1010) 30 = .ok (.iconst 1, 1) := zd zm_1010 (by decide +kernel)
theorem d_1010_31 {σ : Nat → Nat} {n0 : Nat} {bf : ab_B} : decode (ab_code (zx σ n0 bf).1 1010) 31 = .ok (.iadd, 1) := zd zm_1010 (by decide +kernel)
theorem d_1010_32 {σ : Nat → Nat} {n0 : Nat} {bf : ab_B} : decode (ab_code (zx σ n0 bf).1 1010) 32 = .ok (.putfield 114, 3) := zd zm_1010 (by decide +kernel)
theorem d_1010_35 {σ : Nat → Nat} {n0 : Nat} {bf : ab_B} : decode (ab_code (zx σ n0 bf).1 1010) 35 = .ok (.aload_n 0, 1) := zd zm_1010 (by decide +kernel)
theorem d_1010_36 {σ : Nat → Nat} {n0 : Nat} {bf : ab_B} : decode (ab_code (zx σ n0 bf).1 1010) 36 = .ok (.getfield 117, 3) := zd zm_1010 (by decide +kernel)
theorem d_1010_39 {σ : Nat → Nat} {n0 : Nat} {bf : ab_B} : decode (ab_code (zx σ n0 bf).1 1010) 39 = .ok (.iastore, 1) := zd zm_1010 (by decide +kernel)
theorem d_1010_40 {σ : Nat → Nat} {n0 : Nat} {bf : ab_B} : decode (ab_code (zx σ n0 bf).1 1010) 40 = .ok (.iconst 1, 1) := zd zm_1010 (by decide +kernel)
theorem d_1010_41 {σ : Nat → Nat} {n0 : Nat} {bf : ab_B} : decode (ab_code (zx σ n0 bf).1 1010) 41 = .ok (.ireturn, 1) := zd zm_1010 (by decide +kernel)
def w_X2_openText_40 (X : zs_X) (d : Nat)  (S : zs_T) (Q : zs_Q) : Prop :=
  (Q (.returned (some (.int (1 : Int32)))) S)
theorem u_X2_openText_40 {σ : Nat → Nat} {n0 : Nat} {bf : ab_B} {d : Nat}  {S : zs_T} {Q : zs_Q} (hB : zt_B bf) (h : w_X2_openText_40 (zx σ n0 bf) d  S Q) : zs_U (zx σ n0 bf) d 1010 40 [] [] S Q := by
  unfold w_X2_openText_40 at h
  refine zu_iconst d_1010_40 zi_1 ?_
  exact zu_iret d_1010_41 zr_1010 (zs_b_n (Or.inr rfl)) h
def w_X2_openText (X : zs_X) (d : Nat) (p0 : Nat) (p1 : Int32) (p2 : Int32) (S : zs_T) (Q : zs_Q) : Prop :=
  (zs_K S p0 = some (.inl 1) ∧ ((((zs_I S 1011 p0) + p1) ≤ (20000 : Int32) → (ab_n0 X.1 ≤ p0 ∧ ∀ S4, S4 = zs_sI S 1010 p0 ((zs_I S 1010 p0) + (1 : Int32)) → ∃ b7, (zs_R S 1009 p0) = some b7 ∧ zs_A S b7 0 (zs_I S 1010 p0) ∧ ab_n0 X.1 ≤ b7 ∧ ∀ S11, S11 = zs_si S4 b7 (zs_I S 1010 p0).toNatClampNeg (zs_I S4 1011 p0) → w_X2_openText_40 X d  S11 Q)) ∧ (¬ (((zs_I S 1011 p0) + p1) ≤ (20000 : Int32)) → (zs_C X d 1004 [.ref p0, .int (11 : Int32), .int p2] S (zs_kI (fun v15 S14 => (zs_b v15 ∧ Q (.returned (some (.int v15))) S14)) Q)))))
theorem u_X2_openText {σ : Nat → Nat} {n0 : Nat} {bf : ab_B} {d : Nat} {p0 : Nat} {p1 : Int32} {p2 : Int32} {S : zs_T} {Q : zs_Q} (hB : zt_B bf) (hd : 1 ≤ d) (h : w_X2_openText (zx σ n0 bf) (d - 1) p0 p1 p2 S Q) : zs_C (zx σ n0 bf) d 1010 [.ref p0, .int p1, .int p2] S Q := by
  have hL : lv_args 0 [.ref p0, .int p1, .int p2] = [(0, .ref p0), (1, .int p1), (2, .int p2)] := rfl
  refine zs_C.of1 (hB.2 1010 (by decide) (by decide)) hd (by rw [hL]; exact zs_sub_self _ (by exact ⟨rfl, rfl, rfl, trivial⟩)) ?_
  rw [hL]
  clear hL
  unfold w_X2_openText at h
  refine zu_aload_n d_1010_0 rfl (zs_ra _) ?_
  obtain ⟨k1, h⟩ := h
  refine zg_1_117 rfl d_1010_1 k1 ?_
  refine zu_iload_n d_1010_4 rfl ?_
  refine zu_stk d_1010_5 rfl rfl ?_
  refine zu_sipush d_1010_6 zh_20000 ?_
  refine zu_cmple (t := 20) d_1010_9 rfl (fun c2 => ?_) (fun c2 => ?_)
  · have h := h.1 c2
    refine zu_aload_n d_1010_20 rfl (zs_ra _) ?_
    refine zg_1_46 rfl d_1010_21 k1 ?_
    refine zu_aload_n d_1010_24 rfl (zs_ra _) ?_
    refine zu_dup d_1010_25 rfl ?_
    refine zg_1_114 rfl d_1010_26 k1 ?_
    refine zu_dup_x1 d_1010_29 rfl rfl ?_
    refine zu_iconst d_1010_30 zi_1 ?_
    refine zu_stk d_1010_31 rfl rfl ?_
    obtain ⟨k3, h⟩ := h
    refine zp_1_114 (v := ((zs_I S 1010 p0) + (1 : Int32))) rfl d_1010_32 k1 k3 ?_
    generalize e5 : zs_sI S 1010 p0 ((zs_I S 1010 p0) + (1 : Int32)) = S4
    have h := h S4 e5.symm
    have K6 : ∀ b, zs_K S4 b = zs_K S b := zs_Kt e5 (zs_KsI _ _ _ _) (fun _ => rfl)
    refine zu_aload_n d_1010_35 rfl (zs_ra _) ?_
    refine zg_1_117 rfl d_1010_36 ((K6 _).trans k1) ?_
    obtain ⟨b7, e8, h⟩ := h
    refine zs_stk2 (zs_rfe e8) ?_
    obtain ⟨k9, h⟩ := h
    obtain ⟨k10, h⟩ := h
    refine zu_iast (k := 0) d_1010_39 rfl rfl k10 (zs_Ak K6 k9) ?_
    generalize e12 : zs_si S4 b7 (zs_I S 1010 p0).toNatClampNeg (zs_I S4 1011 p0) = S11
    have h := h S11 e12.symm
    have K13 : ∀ b, zs_K S11 b = zs_K S b := zs_Kt e12 (zs_Ksi _ _ _ _) K6
    exact (u_X2_openText_40 hB h).weak trivial
  · have h := h.2 c2
    refine zu_aload_n d_1010_12 rfl (zs_ra _) ?_
    refine zu_bipush d_1010_13 zj_11 ?_
    refine zu_iload_n d_1010_15 rfl ?_
    refine zc_1_194 (x0 := (11 : Int32)) (x1 := p2) hB rfl k1 d_1010_16 (Nat.le_of_ble_eq_true rfl) h (fun v15 S14 h => ?_)
    obtain ⟨k16, h⟩ := h
    exact zu_iret d_1010_19 zr_1010 (zs_b_n k16) h
/-! SchemaPascal$Machine.row(II)I -/
theorem zm_1011 {σ : Nat → Nat} {n0 : Nat} {bf : ab_B} : ab_code (zx σ n0 bf).1 1011 = prog_5_method_11_code := rfl
theorem zq_1011 {σ : Nat → Nat} {n0 : Nat} {bf : ab_B} : ab_maxL (zx σ n0 bf).1 1011 = 5 := rfl
theorem zr_1011 {σ : Nat → Nat} {n0 : Nat} {bf : ab_B} : ab_ret (zx σ n0 bf).1 1011 = (Option.some Jvm.ClassFile.FieldType.int) := rfl
theorem d_1011_0 {σ : Nat → Nat} {n0 : Nat} {bf : ab_B} : decode (ab_code (zx σ n0 bf).1 1011) 0 = .ok (.aload_n 0, 1) := zd zm_1011 (by decide +kernel)
theorem d_1011_1 {σ : Nat → Nat} {n0 : Nat} {bf : ab_B} : decode (ab_code (zx σ n0 bf).1 1011) 1 = .ok (.getfield 129, 3) := zd zm_1011 (by decide +kernel)
theorem d_1011_4 {σ : Nat → Nat} {n0 : Nat} {bf : ab_B} : decode (ab_code (zx σ n0 bf).1 1011) 4 = .ok (.istore_n 3, 1) := zd zm_1011 (by decide +kernel)
theorem d_1011_5 {σ : Nat → Nat} {n0 : Nat} {bf : ab_B} : decode (ab_code (zx σ n0 bf).1 1011) 5 = .ok (.iconst 0, 1) := zd zm_1011 (by decide +kernel)
theorem d_1011_6 {σ : Nat → Nat} {n0 : Nat} {bf : ab_B} : decode (ab_code (zx σ n0 bf).1 1011) 6 = .ok (.istore 4, 2) := zd zm_1011 (by decide +kernel)
theorem d_1011_8 {σ : Nat → Nat} {n0 : Nat} {bf : ab_B} : decode (ab_code (zx σ n0 bf).1 1011) 8 = .ok (.iload 4, 2) := zd zm_1011 (by decide +kernel)
theorem d_1011_10 {σ : Nat → Nat} {n0 : Nat} {bf : ab_B} : decode (ab_code (zx σ n0 bf).1 1011) 10 = .ok (.iload_n 1, 1) := zd zm_1011 (by decide +kernel)
theorem d_1011_11 {σ : Nat → Nat} {n0 : Nat} {bf : ab_B} : decode (ab_code (zx σ n0 bf).1 1011) 11 = .ok (.if_icmp .ge 16, 3) := zd zm_1011 (by decide +kernel)
theorem d_1011_14 {σ : Nat → Nat} {n0 : Nat} {bf : ab_B} : decode (ab_code (zx σ n0 bf).1 1011) 14 = .ok (.aload_n 0, 1) := zd zm_1011 (by decide +kernel)
theorem d_1011_15 {σ : Nat → Nat} {n0 : Nat} {bf : ab_B} : decode (ab_code (zx σ n0 bf).1 1011) 15 = .ok (.getfield 67, 3) := zd zm_1011 (by decide +kernel)
theorem d_1011_18 {σ : Nat → Nat} {n0 : Nat} {bf : ab_B} : decode (ab_code (zx σ n0 bf).1 1011) 18 = .ok (.iload_n 3, 1) := zd zm_1011 (by decide +kernel)
theorem d_1011_19 {σ : Nat → Nat} {n0 : Nat} {bf : ab_B} : decode (ab_code (zx σ n0 bf).1 1011) 19 = .ok (.iaload, 1) := zd zm_1011 (by decide +kernel)
theorem d_1011_20 {σ : Nat → Nat} {n0 : Nat} {bf : ab_B} : decode (ab_code (zx σ n0 bf).1 1011) 20 = .ok (.istore_n 3, 1) := zd zm_1011 (by decide +kernel)
theorem d_1011_21 {σ : Nat → Nat} {n0 : Nat} {bf : ab_B} : decode (ab_code (zx σ n0 bf).1 1011) 21 = .ok (.iinc 4 1, 3) := zd zm_1011 (by decide +kernel)
theorem d_1011_24 {σ : Nat → Nat} {n0 : Nat} {bf : ab_B} : decode (ab_code (zx σ n0 bf).1 1011) 24 = .ok (.goto (-16), 3) := zd zm_1011 (by decide +kernel)
theorem d_1011_27 {σ : Nat → Nat} {n0 : Nat} {bf : ab_B} : decode (ab_code (zx σ n0 bf).1 1011) 27 = .ok (.aload_n 0, 1) := zd zm_1011 (by decide +kernel)
theorem d_1011_28 {σ : Nat → Nat} {n0 : Nat} {bf : ab_B} : decode (ab_code (zx σ n0 bf).1 1011) 28 = .ok (.getfield 70, 3) := zd zm_1011 (by decide +kernel)
theorem d_1011_31 {σ : Nat → Nat} {n0 : Nat} {bf : ab_B} : decode (ab_code (zx σ n0 bf).1 1011) 31 = .ok (.iload_n 3, 1) := zd zm_1011 (by decide +kernel)
theorem d_1011_32 {σ : Nat → Nat} {n0 : Nat} {bf : ab_B} : decode (ab_code (zx σ n0 bf).1 1011) 32 = .ok (.iaload, 1) := zd zm_1011 (by decide +kernel)
theorem d_1011_33 {σ : Nat → Nat} {n0 : Nat} {bf : ab_B} : decode (ab_code (zx σ n0 bf).1 1011) 33 = .ok (.iload_n 2, 1) := zd zm_1011 (by decide +kernel)
theorem d_1011_34 {σ : Nat → Nat} {n0 : Nat} {bf : ab_B} : decode (ab_code (zx σ n0 bf).1 1011) 34 = .ok (.iadd, 1) := zd zm_1011 (by decide +kernel)
theorem d_1011_35 {σ : Nat → Nat} {n0 : Nat} {bf : ab_B} : decode (ab_code (zx σ n0 bf).1 1011) 35 = .ok (.ireturn, 1) := zd zm_1011 (by decide +kernel)
def w_X2_row_8 (X : zs_X) (d : Nat) (p0 : Nat) (p1 : Int32) (p2 : Int32) (p3 : Int32) (p4 : Int32) (S : zs_T) (Q : zs_Q) : Prop :=
  (((p1 ≤ p4 → (zs_K S p0 = some (.inl 1) ∧ ∃ b3, (zs_R S 1021 p0) = some b3 ∧ zs_A S b3 0 p3 ∧ Q (.returned (some (.int ((zs_i S b3 p3.toNatClampNeg) + p2)))) S)) ∧ (¬ (p1 ≤ p4) → (zs_K S p0 = some (.inl 1) ∧ ∃ b7, (zs_R S 1020 p0) = some b7 ∧ zs_A S b7 0 p3 ∧ zs_U X d 1011 8 [(0, .ref p0), (1, .int p1), (2, .int p2), (3, .int (zs_i S b7 p3.toNatClampNeg)), (4, .int (p4 + (1 : Int32)))] [] S Q))))
theorem u_X2_row_8 {σ : Nat → Nat} {n0 : Nat} {bf : ab_B} {d : Nat} {p0 : Nat} {p1 : Int32} {p2 : Int32} {p3 : Int32} {p4 : Int32} {S : zs_T} {Q : zs_Q} (hB : zt_B bf) (h : w_X2_row_8 (zx σ n0 bf) d p0 p1 p2 p3 p4 S Q) : zs_U (zx σ n0 bf) d 1011 8 [(0, .ref p0), (1, .int p1), (2, .int p2), (3, .int p3), (4, .int p4)] [] S Q := by
  unfold w_X2_row_8 at h
  refine zu_iload d_1011_8 rfl ?_
  refine zu_iload_n d_1011_10 rfl ?_
  refine zu_cmpge (t := 27) d_1011_11 rfl (fun c1 => ?_) (fun c1 => ?_)
  · have h := h.1 c1
    refine zu_aload_n d_1011_27 rfl (zs_ra _) ?_
    obtain ⟨k2, h⟩ := h
    refine zg_1_70 rfl d_1011_28 k2 ?_
    refine zu_iload_n d_1011_31 rfl ?_
    obtain ⟨b3, e4, h⟩ := h
    refine zs_stk1 (zs_rfe e4) ?_
    obtain ⟨k5, h⟩ := h
    refine zu_iald (k := 0) d_1011_32 rfl rfl k5 ?_
    refine zu_iload_n d_1011_33 rfl ?_
    refine zu_stk d_1011_34 rfl rfl ?_
    exact zu_iret d_1011_35 zr_1011 rfl h
  · have h := h.2 c1
    refine zu_aload_n d_1011_14 rfl (zs_ra _) ?_
    obtain ⟨k6, h⟩ := h
    refine zg_1_67 rfl d_1011_15 k6 ?_
    refine zu_iload_n d_1011_18 rfl ?_
    obtain ⟨b7, e8, h⟩ := h
    refine zs_stk1 (zs_rfe e8) ?_
    obtain ⟨k9, h⟩ := h
    refine zu_iald (k := 0) d_1011_19 rfl rfl k9 ?_
    refine zu_istore_n d_1011_20 (zs_lt zq_1011 rfl) ?_
    refine zu_iinc d_1011_21 rfl zi_1 (zs_lt zq_1011 rfl) ?_
    refine zu_goto (t := 8) d_1011_24 rfl ?_
    exact h.weak ⟨rfl, rfl, rfl, rfl, rfl, trivial⟩
def w_X2_row (X : zs_X) (d : Nat) (p0 : Nat) (p1 : Int32) (p2 : Int32) (S : zs_T) (Q : zs_Q) : Prop :=
  (zs_K S p0 = some (.inl 1) ∧ zs_U X d 1011 8 [(0, .ref p0), (1, .int p1), (2, .int p2), (3, .int (zs_I S 1025 p0)), (4, .int (0 : Int32))] [] S Q)
theorem u_X2_row {σ : Nat → Nat} {n0 : Nat} {bf : ab_B} {d : Nat} {p0 : Nat} {p1 : Int32} {p2 : Int32} {S : zs_T} {Q : zs_Q} (hB : zt_B bf) (hd : 1 ≤ d) (h : w_X2_row (zx σ n0 bf) (d - 1) p0 p1 p2 S Q) : zs_C (zx σ n0 bf) d 1011 [.ref p0, .int p1, .int p2] S Q := by
  have hL : lv_args 0 [.ref p0, .int p1, .int p2] = [(0, .ref p0), (1, .int p1), (2, .int p2)] := rfl
  refine zs_C.of1 (hB.2 1011 (by decide) (by decide)) hd (by rw [hL]; exact zs_sub_self _ (by exact ⟨rfl, rfl, rfl, trivial⟩)) ?_
  rw [hL]
  clear hL
  unfold w_X2_row at h
  refine zu_aload_n d_1011_0 rfl (zs_ra _) ?_
  obtain ⟨k1, h⟩ := h
  refine zg_1_129 rfl d_1011_1 k1 ?_
  refine zu_istore_n d_1011_4 (zs_lt zq_1011 rfl) ?_
  refine zu_iconst d_1011_5 zi_0 ?_
  refine zu_istore d_1011_6 (zs_lt zq_1011 rfl) ?_
  exact h.weak ⟨rfl, rfl, rfl, rfl, rfl, trivial⟩
/-! SchemaPascal$Machine.pushAddress(JI)V -/
theorem zm_1012 {σ : Nat → Nat} {n0 : Nat} {bf : ab_B} : ab_code (zx σ n0 bf).1 1012 = prog_5_method_10_code := rfl
theorem zq_1012 {σ : Nat → Nat} {n0 : Nat} {bf : ab_B} : ab_maxL (zx σ n0 bf).1 1012 = 4 := rfl
theorem zr_1012 {σ : Nat → Nat} {n0 : Nat} {bf : ab_B} : ab_ret (zx σ n0 bf).1 1012 = (Option.none : Option Jvm.ClassFile.FieldType) := rfl
theorem d_1012_0 {σ : Nat → Nat} {n0 : Nat} {bf : ab_B} : decode (ab_code (zx σ n0 bf).1 1012) 0 = .ok (.aload_n 0, 1) := zd zm_1012 (by decide +kernel)
theorem d_1012_1 {σ : Nat → Nat} {n0 : Nat} {bf : ab_B} : decode (ab_code (zx σ n0 bf).1 1012) 1 = .ok (.getfield 39, 3) := zd zm_1012 (by decide +kernel)
theorem d_1012_4 {σ : Nat → Nat} {n0 : Nat} {bf : ab_B} : decode (ab_code (zx σ n0 bf).1 1012) 4 = .ok (.aload_n 0, 1) := zd zm_1012 (by decide +kernel)
theorem d_1012_5 {σ : Nat → Nat} {n0 : Nat} {bf : ab_B} : decode (ab_code (zx σ n0 bf).1 1012) 5 = .ok (.getfield 111, 3) := zd zm_1012 (by decide +kernel)
theorem d_1012_8 {σ : Nat → Nat} {n0 : Nat} {bf : ab_B} : decode (ab_code (zx σ n0 bf).1 1012) 8 = .ok (.iload_n 3, 1) := zd zm_1012 (by decide +kernel)
theorem d_1012_9 {σ : Nat → Nat} {n0 : Nat} {bf : ab_B} : decode (ab_code (zx σ n0 bf).1 1012) 9 = .ok (.iastore, 1) := zd zm_1012 (by decide +kernel)
theorem d_1012_10 {σ : Nat → Nat} {n0 : Nat} {bf : ab_B} : decode (ab_code (zx σ n0 bf).1 1012) 10 = .ok (.aload_n 0, 1) := zd zm_1012 (by decide +kernel)
theorem d_1012_11 {σ : Nat → Nat} {n0 : Nat} {bf : ab_B} : decode (ab_code (zx σ n0 bf).1 1012) 11 = .ok (.getfield 36, 3) := zd zm_1012 (by decide +kernel)
theorem d_1012_14 {σ : Nat → Nat} {n0 : Nat} {bf : ab_B} : decode (ab_code (zx σ n0 bf).1 1012) 14 = .ok (.aload_n 0, 1) := zd zm_1012 (by decide +kernel)
theorem d_1012_15 {σ : Nat → Nat} {n0 : Nat} {bf : ab_B} : decode (ab_code (zx σ n0 bf).1 1012) 15 = .ok (.dup, 1) := zd zm_1012 (by decide +kernel)
theorem d_1012_16 {σ : Nat → Nat} {n0 : Nat} {bf : ab_B} : decode (ab_code (zx σ n0 bf).1 1012) 16 = .ok (.getfield 111, 3) := zd zm_1012 (by decide +kernel)
theorem d_1012_19 {σ : Nat → Nat} {n0 : Nat} {bf : ab_B} : decode (ab_code (zx σ n0 bf).1 1012) 19 = .ok (.dup_x1, 1) := zd zm_1012 (by decide +kernel)
theorem d_1012_20 {σ : Nat → Nat} {n0 : Nat} {bf : ab_B} : decode (ab_code (zx σ n0 bf).1 1012) 20 = .ok (.iconst 1, 1) := zd zm_1012 (by decide +kernel)
theorem d_1012_21 {σ : Nat → Nat} {n0 : Nat} {bf : ab_B} : decode (ab_code (zx σ n0 bf).1 1012) 21 = .ok (.iadd, 1) := zd zm_1012 (by decide +kernel)
theorem d_1012_22 {σ : Nat → Nat} {n0 : Nat} {bf : ab_B} : decode (ab_code (zx σ n0 bf).1 1012) 22 = .ok (.putfield 111, 3) := zd zm_1012 (by decide +kernel)
theorem d_1012_25 {σ : Nat → Nat} {n0 : Nat} {bf : ab_B} : decode (ab_code (zx σ n0 bf).1 1012) 25 = .ok (.lload_n 1, 1) := zd zm_1012 (by decide +kernel)
theorem d_1012_26 {σ : Nat → Nat} {n0 : Nat} {bf : ab_B} : decode (ab_code (zx σ n0 bf).1 1012) 26 = .ok (.lastore, 1) := zd zm_1012 (by decide +kernel)
theorem d_1012_27 {σ : Nat → Nat} {n0 : Nat} {bf : ab_B} : decode (ab_code (zx σ n0 bf).1 1012) 27 = .ok (.return_, 1) := zd zm_1012 (by decide +kernel)
def w_X2_pushAddress_27 (X : zs_X) (d : Nat)  (S : zs_T) (Q : zs_Q) : Prop :=
  (Q (.returned none) S)
theorem u_X2_pushAddress_27 {σ : Nat → Nat} {n0 : Nat} {bf : ab_B} {d : Nat}  {S : zs_T} {Q : zs_Q} (hB : zt_B bf) (h : w_X2_pushAddress_27 (zx σ n0 bf) d  S Q) : zs_U (zx σ n0 bf) d 1012 27 [] [] S Q := by
  unfold w_X2_pushAddress_27 at h
  exact zu_vret d_1012_27 zr_1012 h
def w_X2_pushAddress (X : zs_X) (d : Nat) (p0 : Nat) (p1 : Int64) (p3 : Int32) (S : zs_T) (Q : zs_Q) : Prop :=
  (zs_K S p0 = some (.inl 1) ∧ ∃ b2, (zs_R S 1006 p0) = some b2 ∧ zs_A S b2 0 (zs_I S 1007 p0) ∧ ab_n0 X.1 ≤ b2 ∧ ∀ S6, S6 = zs_si S b2 (zs_I S 1007 p0).toNatClampNeg p3 → ab_n0 X.1 ≤ p0 ∧ ∀ S10, S10 = zs_sI S6 1007 p0 ((zs_I S6 1007 p0) + (1 : Int32)) → ∃ b13, (zs_R S6 1005 p0) = some b13 ∧ zs_A S b13 3 (zs_I S6 1007 p0) ∧ ab_n0 X.1 ≤ b13 ∧ ∀ S17, S17 = zs_sj S10 b13 (zs_I S6 1007 p0).toNatClampNeg p1 → w_X2_pushAddress_27 X d  S17 Q)
theorem u_X2_pushAddress {σ : Nat → Nat} {n0 : Nat} {bf : ab_B} {d : Nat} {p0 : Nat} {p1 : Int64} {p3 : Int32} {S : zs_T} {Q : zs_Q} (hB : zt_B bf) (hd : 1 ≤ d) (h : w_X2_pushAddress (zx σ n0 bf) (d - 1) p0 p1 p3 S Q) : zs_C (zx σ n0 bf) d 1012 [.ref p0, .long p1, .int p3] S Q := by
  have hL : lv_args 0 [.ref p0, .long p1, .int p3] = [(0, .ref p0), (1, .long p1), (3, .int p3)] := rfl
  refine zs_C.of1 (hB.2 1012 (by decide) (by decide)) hd (by rw [hL]; exact zs_sub_self _ (by exact ⟨rfl, rfl, rfl, trivial⟩)) ?_
  rw [hL]
  clear hL
  unfold w_X2_pushAddress at h
  refine zu_aload_n d_1012_0 rfl (zs_ra _) ?_
  obtain ⟨k1, h⟩ := h
  refine zg_1_39 rfl d_1012_1 k1 ?_
  refine zu_aload_n d_1012_4 rfl (zs_ra _) ?_
  refine zg_1_111 rfl d_1012_5 k1 ?_
  refine zu_iload_n d_1012_8 rfl ?_
  obtain ⟨b2, e3, h⟩ := h
  refine zs_stk2 (zs_rfe e3) ?_
  obtain ⟨k4, h⟩ := h
  obtain ⟨k5, h⟩ := h
  refine zu_iast (k := 0) d_1012_9 rfl rfl k5 k4 ?_
  generalize e7 : zs_si S b2 (zs_I S 1007 p0).toNatClampNeg p3 = S6
  have h := h S6 e7.symm
  have K8 : ∀ b, zs_K S6 b = zs_K S b := zs_Kt e7 (zs_Ksi _ _ _ _) (fun _ => rfl)
  refine zu_aload_n d_1012_10 rfl (zs_ra _) ?_
  refine zg_1_36 rfl d_1012_11 ((K8 _).trans k1) ?_
  refine zu_aload_n d_1012_14 rfl (zs_ra _) ?_
  refine zu_dup d_1012_15 rfl ?_
  refine zg_1_111 rfl d_1012_16 ((K8 _).trans k1) ?_
  refine zu_dup_x1 d_1012_19 rfl rfl ?_
  refine zu_iconst d_1012_20 zi_1 ?_
  refine zu_stk d_1012_21 rfl rfl ?_
  obtain ⟨k9, h⟩ := h
  refine zp_1_111 (v := ((zs_I S6 1007 p0) + (1 : Int32))) rfl d_1012_22 ((K8 _).trans k1) k9 ?_
  generalize e11 : zs_sI S6 1007 p0 ((zs_I S6 1007 p0) + (1 : Int32)) = S10
  have h := h S10 e11.symm
  have K12 : ∀ b, zs_K S10 b = zs_K S b := zs_Kt e11 (zs_KsI _ _ _ _) K8
  refine zu_lload_n d_1012_25 rfl ?_
  obtain ⟨b13, e14, h⟩ := h
  refine zs_stk2 (zs_rfe e14) ?_
  obtain ⟨k15, h⟩ := h
  obtain ⟨k16, h⟩ := h
  refine zu_last (k := 3) d_1012_26 rfl rfl k16 (zs_Ak K12 k15) ?_
  generalize e18 : zs_sj S10 b13 (zs_I S6 1007 p0).toNatClampNeg p1 = S17
  have h := h S17 e18.symm
  have K19 : ∀ b, zs_K S17 b = zs_K S b := zs_Kt e18 (zs_Ksj _ _ _ _) K12
  exact (u_X2_pushAddress_27 hB h).weak trivial
