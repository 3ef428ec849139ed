/-! printed by gen_all.py: what the methods compute -/
set_option maxRecDepth 100000
/-! SchemaPascal$Machine.index(LSchemaPascal$Type;I)V -/
theorem zm_1013 {σ : Nat → Nat} {n0 : Nat} {bf : ab_B} : ab_code (zx σ n0 bf).1 1013 = prog_5_method_14_code := rfl
theorem zq_1013 {σ : Nat → Nat} {n0 : Nat} {bf : ab_B} : ab_maxL (zx σ n0 bf).1 1013 = 8 := rfl
theorem zr_1013 {σ : Nat → Nat} {n0 : Nat} {bf : ab_B} : ab_ret (zx σ n0 bf).1 1013 = (Option.none : Option Jvm.ClassFile.FieldType) := rfl
theorem d_1013_0 {σ : Nat → Nat} {n0 : Nat} {bf : ab_B} : decode (ab_code (zx σ n0 bf).1 1013) 0 = .ok (.aload_n 0, 1) := zd zm_1013 (by decide +kernel)
theorem d_1013_1 {σ : Nat → Nat} {n0 : Nat} {bf : ab_B} : decode (ab_code (zx σ n0 bf).1 1013) 1 = .ok (.getfield 36, 3) := zd zm_1013 (by decide +kernel)
theorem d_1013_4 {σ : Nat → Nat} {n0 : Nat} {bf : ab_B} : decode (ab_code (zx σ n0 bf).1 1013) 4 = .ok (.aload_n 0, 1) := zd zm_1013 (by decide +kernel)
theorem d_1013_5 {σ : Nat → Nat} {n0 : Nat} {bf : ab_B} : decode (ab_code (zx σ n0 bf).1 1013) 5 = .ok (.dup, 1) := zd zm_1013 (by decide +kernel)
theorem d_1013_6 {σ : Nat → Nat} {n0 : Nat} {bf : ab_B} : decode (ab_code (zx σ n0 bf).1 1013) 6 = .ok (.getfield 111, 3) := zd zm_1013 (by decide +kernel)
theorem d_1013_9 {σ : Nat → Nat} {n0 : Nat} {bf : ab_B} : decode (ab_code (zx σ n0 bf).1 1013) 9 = .ok (.iconst 1, 1) := zd zm_1013 (by decide +kernel)
theorem d_1013_10 {σ : Nat → Nat} {n0 : Nat} {bf : ab_B} : decode (ab_code (zx σ n0 bf).1 1013) 10 = .ok (.isub, 1) := zd zm_1013 (by decide +kernel)
theorem d_1013_11 {σ : Nat → Nat} {n0 : Nat} {bf : ab_B} : decode (ab_code (zx σ n0 bf).1 1013) 11 = .ok (.dup_x1, 1) := zd zm_1013 (by decide +kernel)
theorem d_1013_12 {σ : Nat → Nat} {n0 : Nat} {bf : ab_B} : decode (ab_code (zx σ n0 bf).1 1013) 12 = .ok (.putfield 111, 3) := zd zm_1013 (by decide +kernel)
theorem d_1013_15 {σ : Nat → Nat} {n0 : Nat} {bf : ab_B} : decode (ab_code (zx σ n0 bf).1 1013) 15 = .ok (.laload, 1) := zd zm_1013 (by decide +kernel)
theorem d_1013_16 {σ : Nat → Nat} {n0 : Nat} {bf : ab_B} : decode (ab_code (zx σ n0 bf).1 1013) 16 = .ok (.lstore_n 3, 1) := zd zm_1013 (by decide +kernel)
theorem d_1013_17 {σ : Nat → Nat} {n0 : Nat} {bf : ab_B} : decode (ab_code (zx σ n0 bf).1 1013) 17 = .ok (.aload_n 0, 1) := zd zm_1013 (by decide +kernel)
theorem d_1013_18 {σ : Nat → Nat} {n0 : Nat} {bf : ab_B} : decode (ab_code (zx σ n0 bf).1 1013) 18 = .ok (.getfield 39, 3) := zd zm_1013 (by decide +kernel)
theorem d_1013_21 {σ : Nat → Nat} {n0 : Nat} {bf : ab_B} : decode (ab_code (zx σ n0 bf).1 1013) 21 = .ok (.aload_n 0, 1) := zd zm_1013 (by decide +kernel)
theorem d_1013_22 {σ : Nat → Nat} {n0 : Nat} {bf : ab_B} : decode (ab_code (zx σ n0 bf).1 1013) 22 = .ok (.getfield 111, 3) := zd zm_1013 (by decide +kernel)
theorem d_1013_25 {σ : Nat → Nat} {n0 : Nat} {bf : ab_B} : decode (ab_code (zx σ n0 bf).1 1013) 25 = .ok (.iconst 1, 1) := zd zm_1013 (by decide +kernel)
theorem d_1013_26 {σ : Nat → Nat} {n0 : Nat} {bf : ab_B} : decode (ab_code (zx σ n0 bf).1 1013) 26 = .ok (.isub, 1) := zd zm_1013 (by decide +kernel)
theorem d_1013_27 {σ : Nat → Nat} {n0 : Nat} {bf : ab_B} : decode (ab_code (zx σ n0 bf).1 1013) 27 = .ok (.iaload, 1) := zd zm_1013 (by decide +kernel)
theorem d_1013_28 {σ : Nat → Nat} {n0 : Nat} {bf : ab_B} : decode (ab_code (zx σ n0 bf).1 1013) 28 = .ok (.istore 5, 2) := zd zm_1013 (by decide +kernel)
theorem d_1013_30 {σ : Nat → Nat} {n0 : Nat} {bf : ab_B} : decode (ab_code (zx σ n0 bf).1 1013) 30 = .ok (.aload_n 0, 1) := zd zm_1013 (by decide +kernel)
theorem d_1013_31 {σ : Nat → Nat} {n0 : Nat} {bf : ab_B} : decode (ab_code (zx σ n0 bf).1 1013) 31 = .ok (.getfield 31, 3) := zd zm_1013 (by decide +kernel)
theorem d_1013_34 {σ : Nat → Nat} {n0 : Nat} {bf : ab_B} : decode (ab_code (zx σ n0 bf).1 1013) 34 = .ok (.aload_n 1, 1) := zd zm_1013 (by decide +kernel)
theorem d_1013_35 {σ : Nat → Nat} {n0 : Nat} {bf : ab_B} : decode (ab_code (zx σ n0 bf).1 1013) 35 = .ok (.getfield 300, 3) := zd zm_1013 (by decide +kernel)
theorem d_1013_38 {σ : Nat → Nat} {n0 : Nat} {bf : ab_B} : decode (ab_code (zx σ n0 bf).1 1013) 38 = .ok (.iload 5, 2) := zd zm_1013 (by decide +kernel)
theorem d_1013_40 {σ : Nat → Nat} {n0 : Nat} {bf : ab_B} : decode (ab_code (zx σ n0 bf).1 1013) 40 = .ok (.invokevirtual 303, 3) := zd zm_1013 (by decide +kernel)
theorem d_1013_43 {σ : Nat → Nat} {n0 : Nat} {bf : ab_B} : decode (ab_code (zx σ n0 bf).1 1013) 43 = .ok (.lstore 6, 2) := zd zm_1013 (by decide +kernel)
theorem d_1013_45 {σ : Nat → Nat} {n0 : Nat} {bf : ab_B} : decode (ab_code (zx σ n0 bf).1 1013) 45 = .ok (.lload_n 3, 1) := zd zm_1013 (by decide +kernel)
theorem d_1013_46 {σ : Nat → Nat} {n0 : Nat} {bf : ab_B} : decode (ab_code (zx σ n0 bf).1 1013) 46 = .ok (.lload 6, 2) := zd zm_1013 (by decide +kernel)
theorem d_1013_48 {σ : Nat → Nat} {n0 : Nat} {bf : ab_B} : decode (ab_code (zx σ n0 bf).1 1013) 48 = .ok (.lcmp, 1) := zd zm_1013 (by decide +kernel)
theorem d_1013_49 {σ : Nat → Nat} {n0 : Nat} {bf : ab_B} : decode (ab_code (zx σ n0 bf).1 1013) 49 = .ok (.ifCond .lt 21, 3) := zd zm_1013 (by decide +kernel)
theorem d_1013_52 {σ : Nat → Nat} {n0 : Nat} {bf : ab_B} : decode (ab_code (zx σ n0 bf).1 1013) 52 = .ok (.lload_n 3, 1) := zd zm_1013 (by decide +kernel)
theorem d_1013_53 {σ : Nat → Nat} {n0 : Nat} {bf : ab_B} : decode (ab_code (zx σ n0 bf).1 1013) 53 = .ok (.aload_n 0, 1) := zd zm_1013 (by decide +kernel)
theorem d_1013_54 {σ : Nat → Nat} {n0 : Nat} {bf : ab_B} : decode (ab_code (zx σ n0 bf).1 1013) 54 = .ok (.getfield 31, 3) := zd zm_1013 (by decide +kernel)
theorem d_1013_57 {σ : Nat → Nat} {n0 : Nat} {bf : ab_B} : decode (ab_code (zx σ n0 bf).1 1013) 57 = .ok (.aload_n 1, 1) := zd zm_1013 (by decide +kernel)
theorem d_1013_58 {σ : Nat → Nat} {n0 : Nat} {bf : ab_B} : decode (ab_code (zx σ n0 bf).1 1013) 58 = .ok (.getfield 300, 3) := zd zm_1013 (by decide +kernel)
theorem d_1013_61 {σ : Nat → Nat} {n0 : Nat} {bf : ab_B} : decode (ab_code (zx σ n0 bf).1 1013) 61 = .ok (.iload 5, 2) := zd zm_1013 (by decide +kernel)
theorem d_1013_63 {σ : Nat → Nat} {n0 : Nat} {bf : ab_B} : decode (ab_code (zx σ n0 bf).1 1013) 63 = .ok (.invokevirtual 307, 3) := zd zm_1013 (by decide +kernel)
theorem d_1013_66 {σ : Nat → Nat} {n0 : Nat} {bf : ab_B} : decode (ab_code (zx σ n0 bf).1 1013) 66 = .ok (.lcmp, 1) := zd zm_1013 (by decide +kernel)
theorem d_1013_67 {σ : Nat → Nat} {n0 : Nat} {bf : ab_B} : decode (ab_code (zx σ n0 bf).1 1013) 67 = .ok (.ifCond .le 13, 3) := zd zm_1013 (by decide +kernel)
theorem d_1013_70 {σ : Nat → Nat} {n0 : Nat} {bf : ab_B} : decode (ab_code (zx σ n0 bf).1 1013) 70 = .ok (.aload_n 0, 1) := zd zm_1013 (by decide +kernel)
theorem d_1013_71 {σ : Nat → Nat} {n0 : Nat} {bf : ab_B} : decode (ab_code (zx σ n0 bf).1 1013) 71 = .ok (.iconst 2, 1) := zd zm_1013 (by decide +kernel)
theorem d_1013_72 {σ : Nat → Nat} {n0 : Nat} {bf : ab_B} : decode (ab_code (zx σ n0 bf).1 1013) 72 = .ok (.iload_n 2, 1) := zd zm_1013 (by decide +kernel)
theorem d_1013_73 {σ : Nat → Nat} {n0 : Nat} {bf : ab_B} : decode (ab_code (zx σ n0 bf).1 1013) 73 = .ok (.invokevirtual 194, 3) := zd zm_1013 (by decide +kernel)
theorem d_1013_76 {σ : Nat → Nat} {n0 : Nat} {bf : ab_B} : decode (ab_code (zx σ n0 bf).1 1013) 76 = .ok (.pop, 1) := zd zm_1013 (by decide +kernel)
theorem d_1013_77 {σ : Nat → Nat} {n0 : Nat} {bf : ab_B} : decode (ab_code (zx σ n0 bf).1 1013) 77 = .ok (.goto 35, 3) := zd zm_1013 (by decide +kernel)
theorem d_1013_80 {σ : Nat → Nat} {n0 : Nat} {bf : ab_B} : decode (ab_code (zx σ n0 bf).1 1013) 80 = .ok (.aload_n 0, 1) := zd zm_1013 (by decide +kernel)
theorem d_1013_81 {σ : Nat → Nat} {n0 : Nat} {bf : ab_B} : decode (ab_code (zx σ n0 bf).1 1013) 81 = .ok (.getfield 36, 3) := zd zm_1013 (by decide +kernel)
theorem d_1013_84 {σ : Nat → Nat} {n0 : Nat} {bf : ab_B} : decode (ab_code (zx σ n0 bf).1 1013) 84 = .ok (.aload_n 0, 1) := zd zm_1013 (by decide +kernel)
theorem d_1013_85 {σ : Nat → Nat} {n0 : Nat} {bf : ab_B} : decode (ab_code (zx σ n0 bf).1 1013) 85 = .ok (.getfield 111, 3) := zd zm_1013 (by decide +kernel)
theorem d_1013_88 {σ : Nat → Nat} {n0 : Nat} {bf : ab_B} : decode (ab_code (zx σ n0 bf).1 1013) 88 = .ok (.iconst 1, 1) := zd zm_1013 (by decide +kernel)
theorem d_1013_89 {σ : Nat → Nat} {n0 : Nat} {bf : ab_B} : decode (ab_code (zx σ n0 bf).1 1013) 89 = .ok (.isub, 1) := zd zm_1013 (by decide +kernel)
theorem d_1013_90 {σ : Nat → Nat} {n0 : Nat} {bf : ab_B} : decode (ab_code (zx σ n0 bf).1 1013) 90 = .ok (.dup2, 1) := zd zm_1013 (by decide +kernel)
theorem d_1013_91 {σ : Nat → Nat} {n0 : Nat} {bf : ab_B} : decode (ab_code (zx σ n0 bf).1 1013) 91 = .ok (.laload, 1) := zd zm_1013 (by decide +kernel)
theorem d_1013_92 {σ : Nat → Nat} {n0 : Nat} {bf : ab_B} : decode (ab_code (zx σ n0 bf).1 1013) 92 = .ok (.lload_n 3, 1) := zd zm_1013 (by decide +kernel)
theorem d_1013_93 {σ : Nat → Nat} {n0 : Nat} {bf : ab_B} : decode (ab_code (zx σ n0 bf).1 1013) 93 = .ok (.lload 6, 2) := zd zm_1013 (by decide +kernel)
theorem d_1013_95 {σ : Nat → Nat} {n0 : Nat} {bf : ab_B} : decode (ab_code (zx σ n0 bf).1 1013) 95 = .ok (.lsub, 1) := zd zm_1013 (by decide +kernel)
theorem d_1013_96 {σ : Nat → Nat} {n0 : Nat} {bf : ab_B} : decode (ab_code (zx σ n0 bf).1 1013) 96 = .ok (.aload_n 0, 1) := zd zm_1013 (by decide +kernel)
theorem d_1013_97 {σ : Nat → Nat} {n0 : Nat} {bf : ab_B} : decode (ab_code (zx σ n0 bf).1 1013) 97 = .ok (.getfield 31, 3) := zd zm_1013 (by decide +kernel)
theorem d_1013_100 {σ : Nat → Nat} {n0 : Nat} {bf : ab_B} : decode (ab_code (zx σ n0 bf).1 1013) 100 = .ok (.aload_n 1, 1) := zd zm_1013 (by decide +kernel)
theorem d_1013_101 {σ : Nat → Nat} {n0 : Nat} {bf : ab_B} : decode (ab_code (zx σ n0 bf).1 1013) 101 = .ok (.getfield 310, 3) := zd zm_1013 (by decide +kernel)
theorem d_1013_104 {σ : Nat → Nat} {n0 : Nat} {bf : ab_B} : decode (ab_code (zx σ n0 bf).1 1013) 104 = .ok (.iload 5, 2) := zd zm_1013 (by decide +kernel)
theorem d_1013_106 {σ : Nat → Nat} {n0 : Nat} {bf : ab_B} : decode (ab_code (zx σ n0 bf).1 1013) 106 = .ok (.invokevirtual 313, 3) := zd zm_1013 (by decide +kernel)
theorem d_1013_109 {σ : Nat → Nat} {n0 : Nat} {bf : ab_B} : decode (ab_code (zx σ n0 bf).1 1013) 109 = .ok (.lmul, 1) := zd zm_1013 (by decide +kernel)
theorem d_1013_110 {σ : Nat → Nat} {n0 : Nat} {bf : ab_B} : decode (ab_code (zx σ n0 bf).1 1013) 110 = .ok (.ladd, 1) := zd zm_1013 (by decide +kernel)
theorem d_1013_111 {σ : Nat → Nat} {n0 : Nat} {bf : ab_B} : decode (ab_code (zx σ n0 bf).1 1013) 111 = .ok (.lastore, 1) := zd zm_1013 (by decide +kernel)
theorem d_1013_112 {σ : Nat → Nat} {n0 : Nat} {bf : ab_B} : decode (ab_code (zx σ n0 bf).1 1013) 112 = .ok (.return_, 1) := zd zm_1013 (by decide +kernel)
def w_X2_index_112 (X : zs_X) (d : Nat)  (S : zs_T) (Q : zs_Q) : Prop :=
  (Q (.returned none) S)
theorem u_X2_index_112 {σ : Nat → Nat} {n0 : Nat} {bf : ab_B} {d : Nat}  {S : zs_T} {Q : zs_Q} (hB : zt_B bf) (h : w_X2_index_112 (zx σ n0 bf) d  S Q) : zs_U (zx σ n0 bf) d 1013 112 [] [] S Q := by
  unfold w_X2_index_112 at h
  exact zu_vret d_1013_112 zr_1013 h
def w_X2_index_70 (X : zs_X) (d : Nat) (p0 : Nat) (p2 : Int32) (S : zs_T) (Q : zs_Q) : Prop :=
  (zs_K S p0 = some (.inl 1) ∧ zs_C X d 1004 [.ref p0, .int (2 : Int32), .int p2] S (zs_kI (fun v3 S2 => (w_X2_index_112 X d  S2 Q)) Q))
theorem u_X2_index_70 {σ : Nat → Nat} {n0 : Nat} {bf : ab_B} {d : Nat} {p0 : Nat} {p2 : Int32} {S : zs_T} {Q : zs_Q} (hB : zt_B bf) (h : w_X2_index_70 (zx σ n0 bf) d p0 p2 S Q) : zs_U (zx σ n0 bf) d 1013 70 [(0, .ref p0), (2, .int p2)] [] S Q := by
  unfold w_X2_index_70 at h
  refine zu_aload_n d_1013_70 rfl (zs_ra _) ?_
  refine zu_iconst d_1013_71 zi_2 ?_
  refine zu_iload_n d_1013_72 rfl ?_
  obtain ⟨k1, h⟩ := h
  refine zc_1_194 (x0 := (2 : Int32)) (x1 := p2) hB rfl k1 d_1013_73 (Nat.le_of_ble_eq_true rfl) h (fun v3 S2 h => ?_)
  refine zu_pop d_1013_76 rfl ?_
  refine zu_goto (t := 112) d_1013_77 rfl ?_
  exact (u_X2_index_112 hB h).weak trivial
def w_X2_index_80 (X : zs_X) (d : Nat) (p0 : Nat) (p1 : Option Nat) (p3 : Int64) (p5 : Int32) (p6 : Int64) (S : zs_T) (Q : zs_Q) : Prop :=
  (zs_K S p0 = some (.inl 1) ∧ ∃ b2, (zs_R S 1005 p0) = some b2 ∧ zs_A S b2 3 ((zs_I S 1007 p0) - (1 : Int32)) ∧ ∃ b5, p1 = some b5 ∧ zs_K S b5 = some (.inl 6) ∧ ∃ b8, (zs_R S 1004 p0) = some b8 ∧ zs_K S b8 = some (.inl 2) ∧ zs_C X d 2012 [.ref b8, va_rf (zs_R S 6002 b5), .int p5] S (zs_kJ (fun v12 S11 => (zs_A S11 b2 3 ((zs_I S 1007 p0) - (1 : Int32)) ∧ ab_n0 X.1 ≤ b2 ∧ ∀ S15, S15 = zs_sj S11 b2 ((zs_I S 1007 p0) - (1 : Int32)).toNatClampNeg ((zs_j S b2 ((zs_I S 1007 p0) - (1 : Int32)).toNatClampNeg) + ((p3 - p6) * v12)) → w_X2_index_112 X d  S15 Q)) Q))
theorem u_X2_index_80 {σ : Nat → Nat} {n0 : Nat} {bf : ab_B} {d : Nat} {p0 : Nat} {p1 : Option Nat} {p3 : Int64} {p5 : Int32} {p6 : Int64} {S : zs_T} {Q : zs_Q} (hB : zt_B bf) (h : w_X2_index_80 (zx σ n0 bf) d p0 p1 p3 p5 p6 S Q) : zs_U (zx σ n0 bf) d 1013 80 [(0, .ref p0), (1, va_rf p1), (3, .long p3), (5, .int p5), (6, .long p6)] [] S Q := by
  unfold w_X2_index_80 at h
  refine zu_aload_n d_1013_80 rfl (zs_ra _) ?_
  obtain ⟨k1, h⟩ := h
  refine zg_1_36 rfl d_1013_81 k1 ?_
  refine zu_aload_n d_1013_84 rfl (zs_ra _) ?_
  refine zg_1_111 rfl d_1013_85 k1 ?_
  refine zu_iconst d_1013_88 zi_1 ?_
  refine zu_stk d_1013_89 rfl rfl ?_
  refine zu_dup2 d_1013_90 rfl (zs_cat _) ?_
  obtain ⟨b2, e3, h⟩ := h
  refine zs_stk1 (zs_rfe e3) ?_
  obtain ⟨k4, h⟩ := h
  refine zu_lald (k := 3) d_1013_91 rfl rfl k4 ?_
  refine zu_lload_n d_1013_92 rfl ?_
  refine zu_lload d_1013_93 rfl ?_
  refine zu_stk d_1013_95 rfl rfl ?_
  refine zu_aload_n d_1013_96 rfl (zs_ra _) ?_
  refine zg_1_31 rfl d_1013_97 k1 ?_
  refine zu_aload_n d_1013_100 rfl (zs_rr _) ?_
  obtain ⟨b5, e6, h⟩ := h
  refine zs_stk0 (zs_rfe e6) ?_
  obtain ⟨k7, h⟩ := h
  refine zg_1_310 rfl d_1013_101 k7 ?_
  refine zu_iload d_1013_104 rfl ?_
  obtain ⟨b8, e9, h⟩ := h
  refine zs_stk2 (zs_rfe e9) ?_
  obtain ⟨k10, h⟩ := h
  refine zc_1_313 (x0 := (zs_R S 6002 b5)) (x1 := p5) hB rfl k10 d_1013_106 (by simp only [List.map_cons, List.map_nil, List.sum_cons, List.sum_nil, zs_cat, zs_cI, zs_cJ, zs_cA]; exact Nat.le_of_ble_eq_true rfl) h (fun v12 S11 h => ?_)
  refine zu_stk d_1013_109 rfl rfl ?_
  refine zu_stk d_1013_110 rfl rfl ?_
  refine zs_stk2 (zs_rfe e3) ?_
  obtain ⟨k13, h⟩ := h
  obtain ⟨k14, h⟩ := h
  refine zu_last (k := 3) d_1013_111 rfl rfl k14 k13 ?_
  generalize e16 : zs_sj S11 b2 ((zs_I S 1007 p0) - (1 : Int32)).toNatClampNeg ((zs_j S b2 ((zs_I S 1007 p0) - (1 : Int32)).toNatClampNeg) + ((p3 - p6) * v12)) = S15
  have h := h S15 e16.symm
  have K17 : ∀ b, zs_K S15 b = zs_K S11 b := zs_Kt e16 (zs_Ksj _ _ _ _) (fun _ => rfl)
  exact (u_X2_index_112 hB h).weak trivial
def w_X2_index_30 (X : zs_X) (d : Nat) (p0 : Nat) (p1 : Option Nat) (p2 : Int32) (p3 : Int64) (p5 : Int32) (S : zs_T) (Q : zs_Q) : Prop :=
  (zs_K S p0 = some (.inl 1) ∧ ∃ b2, p1 = some b2 ∧ zs_K S b2 = some (.inl 6) ∧ ∃ b5, (zs_R S 1004 p0) = some b5 ∧ zs_K S b5 = some (.inl 2) ∧ zs_C X d 2003 [.ref b5, va_rf (zs_R S 6003 b2), .int p5] S (zs_kJ (fun v9 S8 => (((p3 < v9 → w_X2_index_70 X d p0 p2 S8 Q) ∧ (¬ (p3 < v9) → (zs_K S8 p0 = some (.inl 1) ∧ zs_K S8 b2 = some (.inl 6) ∧ ∃ b13, (zs_R S8 1004 p0) = some b13 ∧ zs_K S8 b13 = some (.inl 2) ∧ zs_C X d 2004 [.ref b13, va_rf (zs_R S8 6003 b2), .int p5] S8 (zs_kJ (fun v17 S16 => (((p3 ≤ v17 → w_X2_index_80 X d p0 p1 p3 p5 v9 S16 Q) ∧ (¬ (p3 ≤ v17) → w_X2_index_70 X d p0 p2 S16 Q)))) Q)))))) Q))
theorem u_X2_index_30 {σ : Nat → Nat} {n0 : Nat} {bf : ab_B} {d : Nat} {p0 : Nat} {p1 : Option Nat} {p2 : Int32} {p3 : Int64} {p5 : Int32} {S : zs_T} {Q : zs_Q} (hB : zt_B bf) (h : w_X2_index_30 (zx σ n0 bf) d p0 p1 p2 p3 p5 S Q) : zs_U (zx σ n0 bf) d 1013 30 [(0, .ref p0), (1, va_rf p1), (2, .int p2), (3, .long p3), (5, .int p5)] [] S Q := by
  unfold w_X2_index_30 at h
  refine zu_aload_n d_1013_30 rfl (zs_ra _) ?_
  obtain ⟨k1, h⟩ := h
  refine zg_1_31 rfl d_1013_31 k1 ?_
  refine zu_aload_n d_1013_34 rfl (zs_rr _) ?_
  obtain ⟨b2, e3, h⟩ := h
  refine zs_stk0 (zs_rfe e3) ?_
  obtain ⟨k4, h⟩ := h
  refine zg_1_300 rfl d_1013_35 k4 ?_
  refine zu_iload d_1013_38 rfl ?_
  obtain ⟨b5, e6, h⟩ := h
  refine zs_stk2 (zs_rfe e6) ?_
  obtain ⟨k7, h⟩ := h
  refine zc_1_303 (x0 := (zs_R S 6003 b2)) (x1 := p5) hB rfl k7 d_1013_40 (Nat.le_of_ble_eq_true rfl) h (fun v9 S8 h => ?_)
  refine zu_lstore d_1013_43 (zs_lt zq_1013 rfl) ?_
  refine zu_lload_n d_1013_45 rfl ?_
  refine zu_lload d_1013_46 rfl ?_
  refine zu_llt (t := 70) d_1013_48 d_1013_49 rfl (fun c10 => ?_) (fun c10 => ?_)
  · have h := h.1 c10
    exact (u_X2_index_70 hB h).weak ⟨rfl, rfl, trivial⟩
  · have h := h.2 c10
    refine zu_lload_n d_1013_52 rfl ?_
    refine zu_aload_n d_1013_53 rfl (zs_ra _) ?_
    obtain ⟨k11, h⟩ := h
    refine zg_1_31 rfl d_1013_54 k11 ?_
    refine zu_aload_n d_1013_57 rfl (zs_rr _) ?_
    refine zs_stk0 (zs_rfe e3) ?_
    obtain ⟨k12, h⟩ := h
    refine zg_1_300 rfl d_1013_58 k12 ?_
    refine zu_iload d_1013_61 rfl ?_
    obtain ⟨b13, e14, h⟩ := h
    refine zs_stk2 (zs_rfe e14) ?_
    obtain ⟨k15, h⟩ := h
    refine zc_1_307 (x0 := (zs_R S8 6003 b2)) (x1 := p5) hB rfl k15 d_1013_63 (Nat.le_of_ble_eq_true rfl) h (fun v17 S16 h => ?_)
    refine zu_lle (t := 80) d_1013_66 d_1013_67 rfl (fun c18 => ?_) (fun c18 => ?_)
    · have h := h.1 c18
      exact (u_X2_index_80 hB h).weak ⟨rfl, rfl, rfl, rfl, rfl, trivial⟩
    · have h := h.2 c18
      exact (u_X2_index_70 hB h).weak ⟨rfl, rfl, trivial⟩
def w_X2_index (X : zs_X) (d : Nat) (p0 : Nat) (p1 : Option Nat) (p2 : Int32) (S : zs_T) (Q : zs_Q) : Prop :=
  (zs_K S p0 = some (.inl 1) ∧ ab_n0 X.1 ≤ p0 ∧ ∀ S3, S3 = zs_sI S 1007 p0 ((zs_I S 1007 p0) - (1 : Int32)) → ∃ b6, (zs_R S 1005 p0) = some b6 ∧ zs_A S b6 3 ((zs_I S 1007 p0) - (1 : Int32)) ∧ ∃ b9, (zs_R S3 1006 p0) = some b9 ∧ zs_A S b9 0 ((zs_I S3 1007 p0) - (1 : Int32)) ∧ w_X2_index_30 X d p0 p1 p2 (zs_j S3 b6 ((zs_I S 1007 p0) - (1 : Int32)).toNatClampNeg) (zs_i S3 b9 ((zs_I S3 1007 p0) - (1 : Int32)).toNatClampNeg) S3 Q)
theorem u_X2_index {σ : Nat → Nat} {n0 : Nat} {bf : ab_B} {d : Nat} {p0 : Nat} {p1 : Option Nat} {p2 : Int32} {S : zs_T} {Q : zs_Q} (hB : zt_B bf) (hd : 1 ≤ d) (h : w_X2_index (zx σ n0 bf) (d - 1) p0 p1 p2 S Q) : zs_C (zx σ n0 bf) d 1013 [.ref p0, va_rf p1, .int p2] S Q := by
  have hL : lv_args 0 [.ref p0, va_rf p1, .int p2] = [(0, .ref p0), (1, va_rf p1), (2, .int p2)] := by simp [lv_args, zs_cat, zs_cI, zs_cJ, zs_cA]
  refine zs_C.of1 (hB.2 1013 (by decide) (by decide)) hd (by rw [hL]; exact zs_sub_self _ (by exact ⟨rfl, rfl, rfl, trivial⟩)) ?_
  rw [hL]
  clear hL
  unfold w_X2_index at h
  refine zu_aload_n d_1013_0 rfl (zs_ra _) ?_
  obtain ⟨k1, h⟩ := h
  refine zg_1_36 rfl d_1013_1 k1 ?_
  refine zu_aload_n d_1013_4 rfl (zs_ra _) ?_
  refine zu_dup d_1013_5 rfl ?_
  refine zg_1_111 rfl d_1013_6 k1 ?_
  refine zu_iconst d_1013_9 zi_1 ?_
  refine zu_stk d_1013_10 rfl rfl ?_
  refine zu_dup_x1 d_1013_11 rfl rfl ?_
  obtain ⟨k2, h⟩ := h
  refine zp_1_111 (v := ((zs_I S 1007 p0) - (1 : Int32))) rfl d_1013_12 k1 k2 ?_
  generalize e4 : zs_sI S 1007 p0 ((zs_I S 1007 p0) - (1 : Int32)) = S3
  have h := h S3 e4.symm
  have K5 : ∀ b, zs_K S3 b = zs_K S b := zs_Kt e4 (zs_KsI _ _ _ _) (fun _ => rfl)
  obtain ⟨b6, e7, h⟩ := h
  refine zs_stk1 (zs_rfe e7) ?_
  obtain ⟨k8, h⟩ := h
  refine zu_lald (k := 3) d_1013_15 rfl rfl (zs_Ak K5 k8) ?_
  refine zu_lstore_n d_1013_16 (zs_lt zq_1013 rfl) ?_
  refine zu_aload_n d_1013_17 rfl (zs_ra _) ?_
  refine zg_1_39 rfl d_1013_18 ((K5 _).trans k1) ?_
  refine zu_aload_n d_1013_21 rfl (zs_ra _) ?_
  refine zg_1_111 rfl d_1013_22 ((K5 _).trans k1) ?_
  refine zu_iconst d_1013_25 zi_1 ?_
  refine zu_stk d_1013_26 rfl rfl ?_
  obtain ⟨b9, e10, h⟩ := h
  refine zs_stk1 (zs_rfe e10) ?_
  obtain ⟨k11, h⟩ := h
  refine zu_iald (k := 0) d_1013_27 rfl rfl (zs_Ak K5 k11) ?_
  refine zu_istore d_1013_28 (zs_lt zq_1013 rfl) ?_
  exact (u_X2_index_30 hB h).weak ⟨rfl, rfl, rfl, rfl, rfl, trivial⟩
/-! SchemaPascal$Machine.field(LSchemaPascal$Fields;LSchemaPascal$Field;I)V -/
theorem zm_1014 {σ : Nat → Nat} {n0 : Nat} {bf : ab_B} : ab_code (zx σ n0 bf).1 1014 = prog_5_method_16_code := rfl
theorem zq_1014 {σ : Nat → Nat} {n0 : Nat} {bf : ab_B} : ab_maxL (zx σ n0 bf).1 1014 = 12 := rfl
theorem zr_1014 {σ : Nat → Nat} {n0 : Nat} {bf : ab_B} : ab_ret (zx σ n0 bf).1 1014 = (Option.none : Option Jvm.ClassFile.FieldType) := rfl
theorem d_1014_0 {σ : Nat → Nat} {n0 : Nat} {bf : ab_B} : decode (ab_code (zx σ n0 bf).1 1014) 0 = .ok (.aload_n 0, 1) := zd zm_1014 (by decide +kernel)
theorem d_1014_1 {σ : Nat → Nat} {n0 : Nat} {bf : ab_B} : decode (ab_code (zx σ n0 bf).1 1014) 1 = .ok (.getfield 39, 3) := zd zm_1014 (by decide +kernel)
theorem d_1014_4 {σ : Nat → Nat} {n0 : Nat} {bf : ab_B} : decode (ab_code (zx σ n0 bf).1 1014) 4 = .ok (.aload_n 0, 1) := zd zm_1014 (by decide +kernel)
theorem d_1014_5 {σ : Nat → Nat} {n0 : Nat} {bf : ab_B} : decode (ab_code (zx σ n0 bf).1 1014) 5 = .ok (.getfield 111, 3) := zd zm_1014 (by decide +kernel)
theorem d_1014_8 {σ : Nat → Nat} {n0 : Nat} {bf : ab_B} : decode (ab_code (zx σ n0 bf).1 1014) 8 = .ok (.iconst 1, 1) := zd zm_1014 (by decide +kernel)
theorem d_1014_9 {σ : Nat → Nat} {n0 : Nat} {bf : ab_B} : decode (ab_code (zx σ n0 bf).1 1014) 9 = .ok (.isub, 1) := zd zm_1014 (by decide +kernel)
theorem d_1014_10 {σ : Nat → Nat} {n0 : Nat} {bf : ab_B} : decode (ab_code (zx σ n0 bf).1 1014) 10 = .ok (.iaload, 1) := zd zm_1014 (by decide +kernel)
theorem d_1014_11 {σ : Nat → Nat} {n0 : Nat} {bf : ab_B} : decode (ab_code (zx σ n0 bf).1 1014) 11 = .ok (.istore 4, 2) := zd zm_1014 (by decide +kernel)
theorem d_1014_13 {σ : Nat → Nat} {n0 : Nat} {bf : ab_B} : decode (ab_code (zx σ n0 bf).1 1014) 13 = .ok (.aload_n 0, 1) := zd zm_1014 (by decide +kernel)
theorem d_1014_14 {σ : Nat → Nat} {n0 : Nat} {bf : ab_B} : decode (ab_code (zx σ n0 bf).1 1014) 14 = .ok (.getfield 36, 3) := zd zm_1014 (by decide +kernel)
theorem d_1014_17 {σ : Nat → Nat} {n0 : Nat} {bf : ab_B} : decode (ab_code (zx σ n0 bf).1 1014) 17 = .ok (.aload_n 0, 1) := zd zm_1014 (by decide +kernel)
theorem d_1014_18 {σ : Nat → Nat} {n0 : Nat} {bf : ab_B} : decode (ab_code (zx σ n0 bf).1 1014) 18 = .ok (.getfield 111, 3) := zd zm_1014 (by decide +kernel)
theorem d_1014_21 {σ : Nat → Nat} {n0 : Nat} {bf : ab_B} : decode (ab_code (zx σ n0 bf).1 1014) 21 = .ok (.iconst 1, 1) := zd zm_1014 (by decide +kernel)
theorem d_1014_22 {σ : Nat → Nat} {n0 : Nat} {bf : ab_B} : decode (ab_code (zx σ n0 bf).1 1014) 22 = .ok (.isub, 1) := zd zm_1014 (by decide +kernel)
theorem d_1014_23 {σ : Nat → Nat} {n0 : Nat} {bf : ab_B} : decode (ab_code (zx σ n0 bf).1 1014) 23 = .ok (.laload, 1) := zd zm_1014 (by decide +kernel)
theorem d_1014_24 {σ : Nat → Nat} {n0 : Nat} {bf : ab_B} : decode (ab_code (zx σ n0 bf).1 1014) 24 = .ok (.lstore 5, 2) := zd zm_1014 (by decide +kernel)
theorem d_1014_26 {σ : Nat → Nat} {n0 : Nat} {bf : ab_B} : decode (ab_code (zx σ n0 bf).1 1014) 26 = .ok (.aload_n 1, 1) := zd zm_1014 (by decide +kernel)
theorem d_1014_27 {σ : Nat → Nat} {n0 : Nat} {bf : ab_B} : decode (ab_code (zx σ n0 bf).1 1014) 27 = .ok (.astore 7, 2) := zd zm_1014 (by decide +kernel)
theorem d_1014_29 {σ : Nat → Nat} {n0 : Nat} {bf : ab_B} : decode (ab_code (zx σ n0 bf).1 1014) 29 = .ok (.iconst 0, 1) := zd zm_1014 (by decide +kernel)
theorem d_1014_30 {σ : Nat → Nat} {n0 : Nat} {bf : ab_B} : decode (ab_code (zx σ n0 bf).1 1014) 30 = .ok (.istore 8, 2) := zd zm_1014 (by decide +kernel)
theorem d_1014_32 {σ : Nat → Nat} {n0 : Nat} {bf : ab_B} : decode (ab_code (zx σ n0 bf).1 1014) 32 = .ok (.iload 8, 2) := zd zm_1014 (by decide +kernel)
theorem d_1014_34 {σ : Nat → Nat} {n0 : Nat} {bf : ab_B} : decode (ab_code (zx σ n0 bf).1 1014) 34 = .ok (.ifCond .ne 243, 3) := zd zm_1014 (by decide +kernel)
theorem d_1014_37 {σ : Nat → Nat} {n0 : Nat} {bf : ab_B} : decode (ab_code (zx σ n0 bf).1 1014) 37 = .ok (.iconst 0, 1) := zd zm_1014 (by decide +kernel)
theorem d_1014_38 {σ : Nat → Nat} {n0 : Nat} {bf : ab_B} : decode (ab_code (zx σ n0 bf).1 1014) 38 = .ok (.istore 9, 2) := zd zm_1014 (by decide +kernel)
theorem d_1014_40 {σ : Nat → Nat} {n0 : Nat} {bf : ab_B} : decode (ab_code (zx σ n0 bf).1 1014) 40 = .ok (.iload 9, 2) := zd zm_1014 (by decide +kernel)
theorem d_1014_42 {σ : Nat → Nat} {n0 : Nat} {bf : ab_B} : decode (ab_code (zx σ n0 bf).1 1014) 42 = .ok (.aload 7, 2) := zd zm_1014 (by decide +kernel)
theorem d_1014_44 {σ : Nat → Nat} {n0 : Nat} {bf : ab_B} : decode (ab_code (zx σ n0 bf).1 1014) 44 = .ok (.getfield 331, 3) := zd zm_1014 (by decide +kernel)
theorem d_1014_47 {σ : Nat → Nat} {n0 : Nat} {bf : ab_B} : decode (ab_code (zx σ n0 bf).1 1014) 47 = .ok (.invokevirtual 336, 3) := zd zm_1014 (by decide +kernel)
theorem d_1014_50 {σ : Nat → Nat} {n0 : Nat} {bf : ab_B} : decode (ab_code (zx σ n0 bf).1 1014) 50 = .ok (.if_icmp .ge 70, 3) := zd zm_1014 (by decide +kernel)
theorem d_1014_53 {σ : Nat → Nat} {n0 : Nat} {bf : ab_B} : decode (ab_code (zx σ n0 bf).1 1014) 53 = .ok (.iload 8, 2) := zd zm_1014 (by decide +kernel)
theorem d_1014_55 {σ : Nat → Nat} {n0 : Nat} {bf : ab_B} : decode (ab_code (zx σ n0 bf).1 1014) 55 = .ok (.ifCond .ne 65, 3) := zd zm_1014 (by decide +kernel)
theorem d_1014_58 {σ : Nat → Nat} {n0 : Nat} {bf : ab_B} : decode (ab_code (zx σ n0 bf).1 1014) 58 = .ok (.aload 7, 2) := zd zm_1014 (by decide +kernel)
theorem d_1014_60 {σ : Nat → Nat} {n0 : Nat} {bf : ab_B} : decode (ab_code (zx σ n0 bf).1 1014) 60 = .ok (.getfield 331, 3) := zd zm_1014 (by decide +kernel)
theorem d_1014_63 {σ : Nat → Nat} {n0 : Nat} {bf : ab_B} : decode (ab_code (zx σ n0 bf).1 1014) 63 = .ok (.iload 9, 2) := zd zm_1014 (by decide +kernel)
theorem d_1014_65 {σ : Nat → Nat} {n0 : Nat} {bf : ab_B} : decode (ab_code (zx σ n0 bf).1 1014) 65 = .ok (.invokevirtual 162, 3) := zd zm_1014 (by decide +kernel)
theorem d_1014_68 {σ : Nat → Nat} {n0 : Nat} {bf : ab_B} : decode (ab_code (zx σ n0 bf).1 1014) 68 = .ok (.aload_n 2, 1) := zd zm_1014 (by decide +kernel)
theorem d_1014_69 {σ : Nat → Nat} {n0 : Nat} {bf : ab_B} : decode (ab_code (zx σ n0 bf).1 1014) 69 = .ok (.if_acmp .ne 7, 3) := zd zm_1014 (by decide +kernel)
theorem d_1014_72 {σ : Nat → Nat} {n0 : Nat} {bf : ab_B} : decode (ab_code (zx σ n0 bf).1 1014) 72 = .ok (.iconst 1, 1) := zd zm_1014 (by decide +kernel)
theorem d_1014_73 {σ : Nat → Nat} {n0 : Nat} {bf : ab_B} : decode (ab_code (zx σ n0 bf).1 1014) 73 = .ok (.goto 4, 3) := zd zm_1014 (by decide +kernel)
theorem d_1014_76 {σ : Nat → Nat} {n0 : Nat} {bf : ab_B} : decode (ab_code (zx σ n0 bf).1 1014) 76 = .ok (.iconst 0, 1) := zd zm_1014 (by decide +kernel)
theorem d_1014_77 {σ : Nat → Nat} {n0 : Nat} {bf : ab_B} : decode (ab_code (zx σ n0 bf).1 1014) 77 = .ok (.istore 8, 2) := zd zm_1014 (by decide +kernel)
theorem d_1014_79 {σ : Nat → Nat} {n0 : Nat} {bf : ab_B} : decode (ab_code (zx σ n0 bf).1 1014) 79 = .ok (.iload 8, 2) := zd zm_1014 (by decide +kernel)
theorem d_1014_81 {σ : Nat → Nat} {n0 : Nat} {bf : ab_B} : decode (ab_code (zx σ n0 bf).1 1014) 81 = .ok (.ifCond .ne 33, 3) := zd zm_1014 (by decide +kernel)
theorem d_1014_84 {σ : Nat → Nat} {n0 : Nat} {bf : ab_B} : decode (ab_code (zx σ n0 bf).1 1014) 84 = .ok (.lload 5, 2) := zd zm_1014 (by decide +kernel)
theorem d_1014_86 {σ : Nat → Nat} {n0 : Nat} {bf : ab_B} : decode (ab_code (zx σ n0 bf).1 1014) 86 = .ok (.aload_n 0, 1) := zd zm_1014 (by decide +kernel)
theorem d_1014_87 {σ : Nat → Nat} {n0 : Nat} {bf : ab_B} : decode (ab_code (zx σ n0 bf).1 1014) 87 = .ok (.getfield 31, 3) := zd zm_1014 (by decide +kernel)
theorem d_1014_90 {σ : Nat → Nat} {n0 : Nat} {bf : ab_B} : decode (ab_code (zx σ n0 bf).1 1014) 90 = .ok (.aload 7, 2) := zd zm_1014 (by decide +kernel)
theorem d_1014_92 {σ : Nat → Nat} {n0 : Nat} {bf : ab_B} : decode (ab_code (zx σ n0 bf).1 1014) 92 = .ok (.getfield 331, 3) := zd zm_1014 (by decide +kernel)
theorem d_1014_95 {σ : Nat → Nat} {n0 : Nat} {bf : ab_B} : decode (ab_code (zx σ n0 bf).1 1014) 95 = .ok (.iload 9, 2) := zd zm_1014 (by decide +kernel)
theorem d_1014_97 {σ : Nat → Nat} {n0 : Nat} {bf : ab_B} : decode (ab_code (zx σ n0 bf).1 1014) 97 = .ok (.invokevirtual 162, 3) := zd zm_1014 (by decide +kernel)
theorem d_1014_100 {σ : Nat → Nat} {n0 : Nat} {bf : ab_B} : decode (ab_code (zx σ n0 bf).1 1014) 100 = .ok (.checkcast 252, 3) := zd zm_1014 (by decide +kernel)
theorem d_1014_103 {σ : Nat → Nat} {n0 : Nat} {bf : ab_B} : decode (ab_code (zx σ n0 bf).1 1014) 103 = .ok (.getfield 339, 3) := zd zm_1014 (by decide +kernel)
theorem d_1014_106 {σ : Nat → Nat} {n0 : Nat} {bf : ab_B} : decode (ab_code (zx σ n0 bf).1 1014) 106 = .ok (.iload 4, 2) := zd zm_1014 (by decide +kernel)
theorem d_1014_108 {σ : Nat → Nat} {n0 : Nat} {bf : ab_B} : decode (ab_code (zx σ n0 bf).1 1014) 108 = .ok (.invokevirtual 313, 3) := zd zm_1014 (by decide +kernel)
theorem d_1014_111 {σ : Nat → Nat} {n0 : Nat} {bf : ab_B} : decode (ab_code (zx σ n0 bf).1 1014) 111 = .ok (.ladd, 1) := zd zm_1014 (by decide +kernel)
theorem d_1014_112 {σ : Nat → Nat} {n0 : Nat} {bf : ab_B} : decode (ab_code (zx σ n0 bf).1 1014) 112 = .ok (.lstore 5, 2) := zd zm_1014 (by decide +kernel)
theorem d_1014_114 {σ : Nat → Nat} {n0 : Nat} {bf : ab_B} : decode (ab_code (zx σ n0 bf).1 1014) 114 = .ok (.iinc 9 1, 3) := zd zm_1014 (by decide +kernel)
theorem d_1014_117 {σ : Nat → Nat} {n0 : Nat} {bf : ab_B} : decode (ab_code (zx σ n0 bf).1 1014) 117 = .ok (.goto (-77), 3) := zd zm_1014 (by decide +kernel)
theorem d_1014_120 {σ : Nat → Nat} {n0 : Nat} {bf : ab_B} : decode (ab_code (zx σ n0 bf).1 1014) 120 = .ok (.iload 8, 2) := zd zm_1014 (by decide +kernel)
theorem d_1014_122 {σ : Nat → Nat} {n0 : Nat} {bf : ab_B} : decode (ab_code (zx σ n0 bf).1 1014) 122 = .ok (.ifCond .eq 6, 3) := zd zm_1014 (by decide +kernel)
theorem d_1014_125 {σ : Nat → Nat} {n0 : Nat} {bf : ab_B} : decode (ab_code (zx σ n0 bf).1 1014) 125 = .ok (.goto 152, 3) := zd zm_1014 (by decide +kernel)
theorem d_1014_128 {σ : Nat → Nat} {n0 : Nat} {bf : ab_B} : decode (ab_code (zx σ n0 bf).1 1014) 128 = .ok (.aconst_null, 1) := zd zm_1014 (by decide +kernel)
theorem d_1014_129 {σ : Nat → Nat} {n0 : Nat} {bf : ab_B} : decode (ab_code (zx σ n0 bf).1 1014) 129 = .ok (.astore 9, 2) := zd zm_1014 (by decide +kernel)
theorem d_1014_131 {σ : Nat → Nat} {n0 : Nat} {bf : ab_B} : decode (ab_code (zx σ n0 bf).1 1014) 131 = .ok (.iconst 0, 1) := zd zm_1014 (by decide +kernel)
theorem d_1014_132 {σ : Nat → Nat} {n0 : Nat} {bf : ab_B} : decode (ab_code (zx σ n0 bf).1 1014) 132 = .ok (.istore 10, 2) := zd zm_1014 (by decide +kernel)
theorem d_1014_134 {σ : Nat → Nat} {n0 : Nat} {bf : ab_B} : decode (ab_code (zx σ n0 bf).1 1014) 134 = .ok (.iload 10, 2) := zd zm_1014 (by decide +kernel)
theorem d_1014_136 {σ : Nat → Nat} {n0 : Nat} {bf : ab_B} : decode (ab_code (zx σ n0 bf).1 1014) 136 = .ok (.aload 7, 2) := zd zm_1014 (by decide +kernel)
theorem d_1014_138 {σ : Nat → Nat} {n0 : Nat} {bf : ab_B} : decode (ab_code (zx σ n0 bf).1 1014) 138 = .ok (.getfield 342, 3) := zd zm_1014 (by decide +kernel)
theorem d_1014_141 {σ : Nat → Nat} {n0 : Nat} {bf : ab_B} : decode (ab_code (zx σ n0 bf).1 1014) 141 = .ok (.getfield 343, 3) := zd zm_1014 (by decide +kernel)
theorem d_1014_144 {σ : Nat → Nat} {n0 : Nat} {bf : ab_B} : decode (ab_code (zx σ n0 bf).1 1014) 144 = .ok (.invokevirtual 336, 3) := zd zm_1014 (by decide +kernel)
theorem d_1014_147 {σ : Nat → Nat} {n0 : Nat} {bf : ab_B} : decode (ab_code (zx σ n0 bf).1 1014) 147 = .ok (.if_icmp .ge 55, 3) := zd zm_1014 (by decide +kernel)
theorem d_1014_150 {σ : Nat → Nat} {n0 : Nat} {bf : ab_B} : decode (ab_code (zx σ n0 bf).1 1014) 150 = .ok (.aload 9, 2) := zd zm_1014 (by decide +kernel)
theorem d_1014_152 {σ : Nat → Nat} {n0 : Nat} {bf : ab_B} : decode (ab_code (zx σ n0 bf).1 1014) 152 = .ok (.ifnonnull 50, 3) := zd zm_1014 (by decide +kernel)
theorem d_1014_155 {σ : Nat → Nat} {n0 : Nat} {bf : ab_B} : decode (ab_code (zx σ n0 bf).1 1014) 155 = .ok (.aload_n 2, 1) := zd zm_1014 (by decide +kernel)
theorem d_1014_156 {σ : Nat → Nat} {n0 : Nat} {bf : ab_B} : decode (ab_code (zx σ n0 bf).1 1014) 156 = .ok (.aload 7, 2) := zd zm_1014 (by decide +kernel)
theorem d_1014_158 {σ : Nat → Nat} {n0 : Nat} {bf : ab_B} : decode (ab_code (zx σ n0 bf).1 1014) 158 = .ok (.getfield 342, 3) := zd zm_1014 (by decide +kernel)
theorem d_1014_161 {σ : Nat → Nat} {n0 : Nat} {bf : ab_B} : decode (ab_code (zx σ n0 bf).1 1014) 161 = .ok (.getfield 343, 3) := zd zm_1014 (by decide +kernel)
theorem d_1014_164 {σ : Nat → Nat} {n0 : Nat} {bf : ab_B} : decode (ab_code (zx σ n0 bf).1 1014) 164 = .ok (.iload 10, 2) := zd zm_1014 (by decide +kernel)
theorem d_1014_166 {σ : Nat → Nat} {n0 : Nat} {bf : ab_B} : decode (ab_code (zx σ n0 bf).1 1014) 166 = .ok (.invokevirtual 162, 3) := zd zm_1014 (by decide +kernel)
theorem d_1014_169 {σ : Nat → Nat} {n0 : Nat} {bf : ab_B} : decode (ab_code (zx σ n0 bf).1 1014) 169 = .ok (.checkcast 321, 3) := zd zm_1014 (by decide +kernel)
theorem d_1014_172 {σ : Nat → Nat} {n0 : Nat} {bf : ab_B} : decode (ab_code (zx σ n0 bf).1 1014) 172 = .ok (.invokestatic 346, 3) := zd zm_1014 (by decide +kernel)
theorem d_1014_175 {σ : Nat → Nat} {n0 : Nat} {bf : ab_B} : decode (ab_code (zx σ n0 bf).1 1014) 175 = .ok (.ifCond .eq 21, 3) := zd zm_1014 (by decide +kernel)
theorem d_1014_178 {σ : Nat → Nat} {n0 : Nat} {bf : ab_B} : decode (ab_code (zx σ n0 bf).1 1014) 178 = .ok (.aload 7, 2) := zd zm_1014 (by decide +kernel)
theorem d_1014_180 {σ : Nat → Nat} {n0 : Nat} {bf : ab_B} : decode (ab_code (zx σ n0 bf).1 1014) 180 = .ok (.getfield 342, 3) := zd zm_1014 (by decide +kernel)
theorem d_1014_183 {σ : Nat → Nat} {n0 : Nat} {bf : ab_B} : decode (ab_code (zx σ n0 bf).1 1014) 183 = .ok (.getfield 343, 3) := zd zm_1014 (by decide +kernel)
theorem d_1014_186 {σ : Nat → Nat} {n0 : Nat} {bf : ab_B} : decode (ab_code (zx σ n0 bf).1 1014) 186 = .ok (.iload 10, 2) := zd zm_1014 (by decide +kernel)
theorem d_1014_188 {σ : Nat → Nat} {n0 : Nat} {bf : ab_B} : decode (ab_code (zx σ n0 bf).1 1014) 188 = .ok (.invokevirtual 162, 3) := zd zm_1014 (by decide +kernel)
theorem d_1014_191 {σ : Nat → Nat} {n0 : Nat} {bf : ab_B} : decode (ab_code (zx σ n0 bf).1 1014) 191 = .ok (.checkcast 321, 3) := zd zm_1014 (by decide +kernel)
theorem d_1014_194 {σ : Nat → Nat} {n0 : Nat} {bf : ab_B} : decode (ab_code (zx σ n0 bf).1 1014) 194 = .ok (.astore 9, 2) := zd zm_1014 (by decide +kernel)
theorem d_1014_196 {σ : Nat → Nat} {n0 : Nat} {bf : ab_B} : decode (ab_code (zx σ n0 bf).1 1014) 196 = .ok (.iinc 10 1, 3) := zd zm_1014 (by decide +kernel)
theorem d_1014_199 {σ : Nat → Nat} {n0 : Nat} {bf : ab_B} : decode (ab_code (zx σ n0 bf).1 1014) 199 = .ok (.goto (-65), 3) := zd zm_1014 (by decide +kernel)
theorem d_1014_202 {σ : Nat → Nat} {n0 : Nat} {bf : ab_B} : decode (ab_code (zx σ n0 bf).1 1014) 202 = .ok (.lload 5, 2) := zd zm_1014 (by decide +kernel)
theorem d_1014_204 {σ : Nat → Nat} {n0 : Nat} {bf : ab_B} : decode (ab_code (zx σ n0 bf).1 1014) 204 = .ok (.l2i, 1) := zd zm_1014 (by decide +kernel)
theorem d_1014_205 {σ : Nat → Nat} {n0 : Nat} {bf : ab_B} : decode (ab_code (zx σ n0 bf).1 1014) 205 = .ok (.iconst 1, 1) := zd zm_1014 (by decide +kernel)
theorem d_1014_206 {σ : Nat → Nat} {n0 : Nat} {bf : ab_B} : decode (ab_code (zx σ n0 bf).1 1014) 206 = .ok (.isub, 1) := zd zm_1014 (by decide +kernel)
theorem d_1014_207 {σ : Nat → Nat} {n0 : Nat} {bf : ab_B} : decode (ab_code (zx σ n0 bf).1 1014) 207 = .ok (.istore 10, 2) := zd zm_1014 (by decide +kernel)
theorem d_1014_209 {σ : Nat → Nat} {n0 : Nat} {bf : ab_B} : decode (ab_code (zx σ n0 bf).1 1014) 209 = .ok (.aload_n 0, 1) := zd zm_1014 (by decide +kernel)
theorem d_1014_210 {σ : Nat → Nat} {n0 : Nat} {bf : ab_B} : decode (ab_code (zx σ n0 bf).1 1014) 210 = .ok (.iload 10, 2) := zd zm_1014 (by decide +kernel)
theorem d_1014_212 {σ : Nat → Nat} {n0 : Nat} {bf : ab_B} : decode (ab_code (zx σ n0 bf).1 1014) 212 = .ok (.iload 4, 2) := zd zm_1014 (by decide +kernel)
theorem d_1014_214 {σ : Nat → Nat} {n0 : Nat} {bf : ab_B} : decode (ab_code (zx σ n0 bf).1 1014) 214 = .ok (.aload 7, 2) := zd zm_1014 (by decide +kernel)
theorem d_1014_216 {σ : Nat → Nat} {n0 : Nat} {bf : ab_B} : decode (ab_code (zx σ n0 bf).1 1014) 216 = .ok (.getfield 342, 3) := zd zm_1014 (by decide +kernel)
theorem d_1014_219 {σ : Nat → Nat} {n0 : Nat} {bf : ab_B} : decode (ab_code (zx σ n0 bf).1 1014) 219 = .ok (.getfield 325, 3) := zd zm_1014 (by decide +kernel)
theorem d_1014_222 {σ : Nat → Nat} {n0 : Nat} {bf : ab_B} : decode (ab_code (zx σ n0 bf).1 1014) 222 = .ok (.getfield 339, 3) := zd zm_1014 (by decide +kernel)
theorem d_1014_225 {σ : Nat → Nat} {n0 : Nat} {bf : ab_B} : decode (ab_code (zx σ n0 bf).1 1014) 225 = .ok (.invokevirtual 265, 3) := zd zm_1014 (by decide +kernel)
theorem d_1014_228 {σ : Nat → Nat} {n0 : Nat} {bf : ab_B} : decode (ab_code (zx σ n0 bf).1 1014) 228 = .ok (.istore 11, 2) := zd zm_1014 (by decide +kernel)
theorem d_1014_230 {σ : Nat → Nat} {n0 : Nat} {bf : ab_B} : decode (ab_code (zx σ n0 bf).1 1014) 230 = .ok (.iload 11, 2) := zd zm_1014 (by decide +kernel)
theorem d_1014_232 {σ : Nat → Nat} {n0 : Nat} {bf : ab_B} : decode (ab_code (zx σ n0 bf).1 1014) 232 = .ok (.ifCond .eq 18, 3) := zd zm_1014 (by decide +kernel)
theorem d_1014_235 {σ : Nat → Nat} {n0 : Nat} {bf : ab_B} : decode (ab_code (zx σ n0 bf).1 1014) 235 = .ok (.aload 9, 2) := zd zm_1014 (by decide +kernel)
theorem d_1014_237 {σ : Nat → Nat} {n0 : Nat} {bf : ab_B} : decode (ab_code (zx σ n0 bf).1 1014) 237 = .ok (.aload_n 0, 1) := zd zm_1014 (by decide +kernel)
theorem d_1014_238 {σ : Nat → Nat} {n0 : Nat} {bf : ab_B} : decode (ab_code (zx σ n0 bf).1 1014) 238 = .ok (.getfield 10, 3) := zd zm_1014 (by decide +kernel)
theorem d_1014_241 {σ : Nat → Nat} {n0 : Nat} {bf : ab_B} : decode (ab_code (zx σ n0 bf).1 1014) 241 = .ok (.iload 10, 2) := zd zm_1014 (by decide +kernel)
theorem d_1014_243 {σ : Nat → Nat} {n0 : Nat} {bf : ab_B} : decode (ab_code (zx σ n0 bf).1 1014) 243 = .ok (.laload, 1) := zd zm_1014 (by decide +kernel)
theorem d_1014_244 {σ : Nat → Nat} {n0 : Nat} {bf : ab_B} : decode (ab_code (zx σ n0 bf).1 1014) 244 = .ok (.invokevirtual 350, 3) := zd zm_1014 (by decide +kernel)
theorem d_1014_247 {σ : Nat → Nat} {n0 : Nat} {bf : ab_B} : decode (ab_code (zx σ n0 bf).1 1014) 247 = .ok (.ifCond .ne 20, 3) := zd zm_1014 (by decide +kernel)
theorem d_1014_250 {σ : Nat → Nat} {n0 : Nat} {bf : ab_B} : decode (ab_code (zx σ n0 bf).1 1014) 250 = .ok (.aload_n 0, 1) := zd zm_1014 (by decide +kernel)
theorem d_1014_251 {σ : Nat → Nat} {n0 : Nat} {bf : ab_B} : decode (ab_code (zx σ n0 bf).1 1014) 251 = .ok (.iload 11, 2) := zd zm_1014 (by decide +kernel)
theorem d_1014_253 {σ : Nat → Nat} {n0 : Nat} {bf : ab_B} : decode (ab_code (zx σ n0 bf).1 1014) 253 = .ok (.ifCond .eq 7, 3) := zd zm_1014 (by decide +kernel)
theorem d_1014_256 {σ : Nat → Nat} {n0 : Nat} {bf : ab_B} : decode (ab_code (zx σ n0 bf).1 1014) 256 = .ok (.iconst 3, 1) := zd zm_1014 (by decide +kernel)
theorem d_1014_257 {σ : Nat → Nat} {n0 : Nat} {bf : ab_B} : decode (ab_code (zx σ n0 bf).1 1014) 257 = .ok (.goto 4, 3) := zd zm_1014 (by decide +kernel)
theorem d_1014_260 {σ : Nat → Nat} {n0 : Nat} {bf : ab_B} : decode (ab_code (zx σ n0 bf).1 1014) 260 = .ok (.iconst 1, 1) := zd zm_1014 (by decide +kernel)
theorem d_1014_261 {σ : Nat → Nat} {n0 : Nat} {bf : ab_B} : decode (ab_code (zx σ n0 bf).1 1014) 261 = .ok (.iload_n 3, 1) := zd zm_1014 (by decide +kernel)
theorem d_1014_262 {σ : Nat → Nat} {n0 : Nat} {bf : ab_B} : decode (ab_code (zx σ n0 bf).1 1014) 262 = .ok (.invokevirtual 194, 3) := zd zm_1014 (by decide +kernel)
theorem d_1014_265 {σ : Nat → Nat} {n0 : Nat} {bf : ab_B} : decode (ab_code (zx σ n0 bf).1 1014) 265 = .ok (.pop, 1) := zd zm_1014 (by decide +kernel)
theorem d_1014_266 {σ : Nat → Nat} {n0 : Nat} {bf : ab_B} : decode (ab_code (zx σ n0 bf).1 1014) 266 = .ok (.return_, 1) := zd zm_1014 (by decide +kernel)
theorem d_1014_267 {σ : Nat → Nat} {n0 : Nat} {bf : ab_B} : decode (ab_code (zx σ n0 bf).1 1014) 267 = .ok (.aload 9, 2) := zd zm_1014 (by decide +kernel)
theorem d_1014_269 {σ : Nat → Nat} {n0 : Nat} {bf : ab_B} : decode (ab_code (zx σ n0 bf).1 1014) 269 = .ok (.getfield 353, 3) := zd zm_1014 (by decide +kernel)
theorem d_1014_272 {σ : Nat → Nat} {n0 : Nat} {bf : ab_B} : decode (ab_code (zx σ n0 bf).1 1014) 272 = .ok (.astore 7, 2) := zd zm_1014 (by decide +kernel)
theorem d_1014_274 {σ : Nat → Nat} {n0 : Nat} {bf : ab_B} : decode (ab_code (zx σ n0 bf).1 1014) 274 = .ok (.goto (-242), 3) := zd zm_1014 (by decide +kernel)
theorem d_1014_277 {σ : Nat → Nat} {n0 : Nat} {bf : ab_B} : decode (ab_code (zx σ n0 bf).1 1014) 277 = .ok (.aload_n 0, 1) := zd zm_1014 (by decide +kernel)
theorem d_1014_278 {σ : Nat → Nat} {n0 : Nat} {bf : ab_B} : decode (ab_code (zx σ n0 bf).1 1014) 278 = .ok (.getfield 36, 3) := zd zm_1014 (by decide +kernel)
theorem d_1014_281 {σ : Nat → Nat} {n0 : Nat} {bf : ab_B} : decode (ab_code (zx σ n0 bf).1 1014) 281 = .ok (.aload_n 0, 1) := zd zm_1014 (by decide +kernel)
theorem d_1014_282 {σ : Nat → Nat} {n0 : Nat} {bf : ab_B} : decode (ab_code (zx σ n0 bf).1 1014) 282 = .ok (.getfield 111, 3) := zd zm_1014 (by decide +kernel)
theorem d_1014_285 {σ : Nat → Nat} {n0 : Nat} {bf : ab_B} : decode (ab_code (zx σ n0 bf).1 1014) 285 = .ok (.iconst 1, 1) := zd zm_1014 (by decide +kernel)
theorem d_1014_286 {σ : Nat → Nat} {n0 : Nat} {bf : ab_B} : decode (ab_code (zx σ n0 bf).1 1014) 286 = .ok (.isub, 1) := zd zm_1014 (by decide +kernel)
theorem d_1014_287 {σ : Nat → Nat} {n0 : Nat} {bf : ab_B} : decode (ab_code (zx σ n0 bf).1 1014) 287 = .ok (.lload 5, 2) := zd zm_1014 (by decide +kernel)
theorem d_1014_289 {σ : Nat → Nat} {n0 : Nat} {bf : ab_B} : decode (ab_code (zx σ n0 bf).1 1014) 289 = .ok (.lastore, 1) := zd zm_1014 (by decide +kernel)
theorem d_1014_290 {σ : Nat → Nat} {n0 : Nat} {bf : ab_B} : decode (ab_code (zx σ n0 bf).1 1014) 290 = .ok (.return_, 1) := zd zm_1014 (by decide +kernel)
def w_X2_field_26 (X : zs_X) (d : Nat) (p0 : Nat) (p1 : Option Nat) (p2 : Option Nat) (p3 : Int32) (p4 : Int32) (p5 : Int64) (S : zs_T) (Q : zs_Q) : Prop :=
  (zs_U X d 1014 32 [(0, .ref p0), (2, va_rf p2), (3, .int p3), (4, .int p4), (5, .long p5), (7, va_rf p1), (8, .int (0 : Int32))] [] S Q)
theorem u_X2_field_26 {σ : Nat → Nat} {n0 : Nat} {bf : ab_B} {d : Nat} {p0 : Nat} {p1 : Option Nat} {p2 : Option Nat} {p3 : Int32} {p4 : Int32} {p5 : Int64} {S : zs_T} {Q : zs_Q} (hB : zt_B bf) (h : w_X2_field_26 (zx σ n0 bf) d p0 p1 p2 p3 p4 p5 S Q) : zs_U (zx σ n0 bf) d 1014 26 [(0, .ref p0), (1, va_rf p1), (2, va_rf p2), (3, .int p3), (4, .int p4), (5, .long p5)] [] S Q := by
  unfold w_X2_field_26 at h
  refine zu_aload_n d_1014_26 rfl (zs_rr _) ?_
  refine zu_astore d_1014_27 (zs_rr _) (zs_lt zq_1014 rfl) ?_
  refine zu_iconst d_1014_29 zi_0 ?_
  refine zu_istore d_1014_30 (zs_lt zq_1014 rfl) ?_
  refine zs_U.weak (L1 := [(8, .int (0 : Int32)), (0, .ref p0), (1, va_rf p1), (2, va_rf p2), (3, .int p3), (4, .int p4), (5, .long p5), (7, va_rf p1)]) ?_ ⟨rfl, zs_gp1 rfl (Or.inl rfl) rfl, zs_gp1 rfl (Or.inl (zs_cat _)) rfl, zs_gp1 rfl (Or.inl (zs_cat _)) rfl, zs_gp1 rfl (Or.inl rfl) rfl, zs_gp1 rfl (Or.inl rfl) rfl, zs_gp1 rfl (Or.inr rfl) rfl, zs_gp1 rfl (Or.inl (zs_cat _)) rfl, trivial⟩
  exact h.weak ⟨rfl, rfl, rfl, rfl, rfl, rfl, rfl, trivial⟩
def w_X2_field_277 (X : zs_X) (d : Nat) (p0 : Nat) (p5 : Int64) (S : zs_T) (Q : zs_Q) : Prop :=
  (zs_K S p0 = some (.inl 1) ∧ ∃ b2, (zs_R S 1005 p0) = some b2 ∧ zs_A S b2 3 ((zs_I S 1007 p0) - (1 : Int32)) ∧ ab_n0 X.1 ≤ b2 ∧ ∀ S6, S6 = zs_sj S b2 ((zs_I S 1007 p0) - (1 : Int32)).toNatClampNeg p5 → Q (.returned none) S6)
theorem u_X2_field_277 {σ : Nat → Nat} {n0 : Nat} {bf : ab_B} {d : Nat} {p0 : Nat} {p5 : Int64} {S : zs_T} {Q : zs_Q} (hB : zt_B bf) (h : w_X2_field_277 (zx σ n0 bf) d p0 p5 S Q) : zs_U (zx σ n0 bf) d 1014 277 [(0, .ref p0), (5, .long p5)] [] S Q := by
  unfold w_X2_field_277 at h
  refine zu_aload_n d_1014_277 rfl (zs_ra _) ?_
  obtain ⟨k1, h⟩ := h
  refine zg_1_36 rfl d_1014_278 k1 ?_
  refine zu_aload_n d_1014_281 rfl (zs_ra _) ?_
  refine zg_1_111 rfl d_1014_282 k1 ?_
  refine zu_iconst d_1014_285 zi_1 ?_
  refine zu_stk d_1014_286 rfl rfl ?_
  refine zu_lload d_1014_287 rfl ?_
  obtain ⟨b2, e3, h⟩ := h
  refine zs_stk2 (zs_rfe e3) ?_
  obtain ⟨k4, h⟩ := h
  obtain ⟨k5, h⟩ := h
  refine zu_last (k := 3) d_1014_289 rfl rfl k5 k4 ?_
  generalize e7 : zs_sj S b2 ((zs_I S 1007 p0) - (1 : Int32)).toNatClampNeg p5 = S6
  have h := h S6 e7.symm
  have K8 : ∀ b, zs_K S6 b = zs_K S b := zs_Kt e7 (zs_Ksj _ _ _ _) (fun _ => rfl)
  exact zu_vret d_1014_290 zr_1014 h
def w_X2_field_32 (X : zs_X) (d : Nat) (p0 : Nat) (p2 : Option Nat) (p3 : Int32) (p4 : Int32) (p5 : Int64) (p7 : Option Nat) (p8 : Int32) (S : zs_T) (Q : zs_Q) : Prop :=
  (((¬ p8 = 0 → w_X2_field_277 X d p0 p5 S Q) ∧ (¬ (¬ p8 = 0) → (zs_U X d 1014 40 [(0, .ref p0), (2, va_rf p2), (3, .int p3), (4, .int p4), (5, .long p5), (7, va_rf p7), (8, .int p8), (9, .int (0 : Int32))] [] S Q))))
theorem u_X2_field_32 {σ : Nat → Nat} {n0 : Nat} {bf : ab_B} {d : Nat} {p0 : Nat} {p2 : Option Nat} {p3 : Int32} {p4 : Int32} {p5 : Int64} {p7 : Option Nat} {p8 : Int32} {S : zs_T} {Q : zs_Q} (hB : zt_B bf) (h : w_X2_field_32 (zx σ n0 bf) d p0 p2 p3 p4 p5 p7 p8 S Q) : zs_U (zx σ n0 bf) d 1014 32 [(0, .ref p0), (2, va_rf p2), (3, .int p3), (4, .int p4), (5, .long p5), (7, va_rf p7), (8, .int p8)] [] S Q := by
  unfold w_X2_field_32 at h
  refine zu_iload d_1014_32 rfl ?_
  refine zu_ifne (t := 277) d_1014_34 rfl (fun c1 => ?_) (fun c1 => ?_)
  · have h := h.1 c1
    exact (u_X2_field_277 hB h).weak ⟨rfl, rfl, trivial⟩
  · have h := h.2 c1
    refine zu_iconst d_1014_37 zi_0 ?_
    refine zu_istore d_1014_38 (zs_lt zq_1014 rfl) ?_
    exact h.weak ⟨rfl, rfl, rfl, rfl, rfl, rfl, rfl, rfl, trivial⟩
def w_X2_field_120 (X : zs_X) (d : Nat) (p0 : Nat) (p2 : Option Nat) (p3 : Int32) (p4 : Int32) (p5 : Int64) (p7 : Option Nat) (p8 : Int32) (S : zs_T) (Q : zs_Q) : Prop :=
  (((p8 = 0 → (zs_U X d 1014 134 [(0, .ref p0), (2, va_rf p2), (3, .int p3), (4, .int p4), (5, .long p5), (7, va_rf p7), (8, .int p8), (9, va_rf none), (10, .int (0 : Int32))] [] S Q)) ∧ (¬ (p8 = 0) → (w_X2_field_277 X d p0 p5 S Q))))
theorem u_X2_field_120 {σ : Nat → Nat} {n0 : Nat} {bf : ab_B} {d : Nat} {p0 : Nat} {p2 : Option Nat} {p3 : Int32} {p4 : Int32} {p5 : Int64} {p7 : Option Nat} {p8 : Int32} {S : zs_T} {Q : zs_Q} (hB : zt_B bf) (h : w_X2_field_120 (zx σ n0 bf) d p0 p2 p3 p4 p5 p7 p8 S Q) : zs_U (zx σ n0 bf) d 1014 120 [(0, .ref p0), (2, va_rf p2), (3, .int p3), (4, .int p4), (5, .long p5), (7, va_rf p7), (8, .int p8)] [] S Q := by
  unfold w_X2_field_120 at h
  refine zu_iload d_1014_120 rfl ?_
  refine zu_ifeq (t := 128) d_1014_122 rfl (fun c1 => ?_) (fun c1 => ?_)
  · have h := h.1 c1
    refine zu_stk d_1014_128 rfl rfl ?_
    refine zu_astore d_1014_129 zs_r0 (zs_lt zq_1014 rfl) ?_
    refine zu_iconst d_1014_131 zi_0 ?_
    refine zu_istore d_1014_132 (zs_lt zq_1014 rfl) ?_
    exact h.weak ⟨rfl, rfl, rfl, rfl, rfl, rfl, rfl, rfl, rfl, trivial⟩
  · have h := h.2 c1
    refine zu_goto (t := 277) d_1014_125 rfl ?_
    exact (u_X2_field_277 hB h).weak ⟨rfl, rfl, trivial⟩
def w_X2_field_114 (X : zs_X) (d : Nat) (p0 : Nat) (p2 : Option Nat) (p3 : Int32) (p4 : Int32) (p5 : Int64) (p7 : Option Nat) (p8 : Int32) (p9 : Int32) (S : zs_T) (Q : zs_Q) : Prop :=
  (zs_U X d 1014 40 [(0, .ref p0), (2, va_rf p2), (3, .int p3), (4, .int p4), (5, .long p5), (7, va_rf p7), (8, .int p8), (9, .int (p9 + (1 : Int32)))] [] S Q)
theorem u_X2_field_114 {σ : Nat → Nat} {n0 : Nat} {bf : ab_B} {d : Nat} {p0 : Nat} {p2 : Option Nat} {p3 : Int32} {p4 : Int32} {p5 : Int64} {p7 : Option Nat} {p8 : Int32} {p9 : Int32} {S : zs_T} {Q : zs_Q} (hB : zt_B bf) (h : w_X2_field_114 (zx σ n0 bf) d p0 p2 p3 p4 p5 p7 p8 p9 S Q) : zs_U (zx σ n0 bf) d 1014 114 [(0, .ref p0), (2, va_rf p2), (3, .int p3), (4, .int p4), (5, .long p5), (7, va_rf p7), (8, .int p8), (9, .int p9)] [] S Q := by
  unfold w_X2_field_114 at h
  refine zu_iinc d_1014_114 rfl zi_1 (zs_lt zq_1014 rfl) ?_
  refine zu_goto (t := 40) d_1014_117 rfl ?_
  exact h.weak ⟨rfl, rfl, rfl, rfl, rfl, rfl, rfl, rfl, trivial⟩
def w_X2_field_77 (X : zs_X) (d : Nat) (p0 : Nat) (p2 : Option Nat) (p3 : Int32) (p4 : Int32) (p5 : Int64) (p7 : Option Nat) (p9 : Int32) (q0 : Int32) (S : zs_T) (Q : zs_Q) : Prop :=
  (((¬ q0 = 0 → w_X2_field_114 X d p0 p2 p3 p4 p5 p7 q0 p9 S Q) ∧ (¬ (¬ q0 = 0) → (zs_K S p0 = some (.inl 1) ∧ ∃ b3, p7 = some b3 ∧ zs_K S b3 = some (.inl 13) ∧ ∃ b6, (zs_R S 13000 b3) = some b6 ∧ zs_K S b6 = some (.inl 16) ∧ zs_C X d 16009 [.ref b6, .int p9] S (zs_kR (fun v10 S9 => ((∀ a, v10 = some a → zs_K S9 a = some (.inl 12)) ∧ ∃ b12, v10 = some b12 ∧ zs_K S9 b12 = some (.inl 12) ∧ ∃ b15, (zs_R S 1004 p0) = some b15 ∧ zs_K S9 b15 = some (.inl 2) ∧ zs_C X d 2012 [.ref b15, va_rf (zs_R S9 12001 b12), .int p4] S9 (zs_kJ (fun v19 S18 => (w_X2_field_114 X d p0 p2 p3 p4 (p5 + v19) p7 q0 p9 S18 Q)) Q))) Q)))))
theorem u_X2_field_77 {σ : Nat → Nat} {n0 : Nat} {bf : ab_B} {d : Nat} {p0 : Nat} {p2 : Option Nat} {p3 : Int32} {p4 : Int32} {p5 : Int64} {p7 : Option Nat} {p9 : Int32} {q0 : Int32} {S : zs_T} {Q : zs_Q} (hB : zt_B bf) (h : w_X2_field_77 (zx σ n0 bf) d p0 p2 p3 p4 p5 p7 p9 q0 S Q) : zs_U (zx σ n0 bf) d 1014 77 [(0, .ref p0), (2, va_rf p2), (3, .int p3), (4, .int p4), (5, .long p5), (7, va_rf p7), (9, .int p9)] [.int q0] S Q := by
  unfold w_X2_field_77 at h
  refine zu_istore d_1014_77 (zs_lt zq_1014 rfl) ?_
  refine zs_U.weak (L1 := [(8, .int q0), (0, .ref p0), (2, va_rf p2), (3, .int p3), (4, .int p4), (5, .long p5), (7, va_rf p7), (9, .int p9)]) ?_ ⟨rfl, zs_gp1 rfl (Or.inl rfl) rfl, zs_gp1 rfl (Or.inl (zs_cat _)) rfl, zs_gp1 rfl (Or.inl rfl) rfl, zs_gp1 rfl (Or.inl rfl) rfl, zs_gp1 rfl (Or.inr rfl) rfl, zs_gp1 rfl (Or.inl (zs_cat _)) rfl, zs_gp1 rfl (Or.inl rfl) rfl, trivial⟩
  refine zu_iload d_1014_79 rfl ?_
  refine zu_ifne (t := 114) d_1014_81 rfl (fun c1 => ?_) (fun c1 => ?_)
  · have h := h.1 c1
    exact (u_X2_field_114 hB h).weak ⟨rfl, rfl, rfl, rfl, rfl, rfl, rfl, rfl, trivial⟩
  · have h := h.2 c1
    refine zu_lload d_1014_84 rfl ?_
    refine zu_aload_n d_1014_86 rfl (zs_ra _) ?_
    obtain ⟨k2, h⟩ := h
    refine zg_1_31 rfl d_1014_87 k2 ?_
    refine zu_aload d_1014_90 rfl (zs_rr _) ?_
    obtain ⟨b3, e4, h⟩ := h
    refine zs_stk0 (zs_rfe e4) ?_
    obtain ⟨k5, h⟩ := h
    refine zg_1_331 rfl d_1014_92 k5 ?_
    refine zu_iload d_1014_95 rfl ?_
    obtain ⟨b6, e7, h⟩ := h
    refine zs_stk1 (zs_rfe e7) ?_
    obtain ⟨k8, h⟩ := h
    refine zc_1_162 (x0 := p9) hB rfl k8 d_1014_97 (by simp only [List.map_cons, List.map_nil, List.sum_cons, List.sum_nil, zs_cat, zs_cI, zs_cJ, zs_cA]; exact Nat.le_of_ble_eq_true rfl) h (fun v10 S9 h => ?_)
    obtain ⟨k11, h⟩ := h
    refine zk_1_252 (o := v10) rfl d_1014_100 k11 ?_
    obtain ⟨b12, e13, h⟩ := h
    refine zs_stk0 (zs_rfe e13) ?_
    obtain ⟨k14, h⟩ := h
    refine zg_1_339 rfl d_1014_103 k14 ?_
    refine zu_iload d_1014_106 rfl ?_
    obtain ⟨b15, e16, h⟩ := h
    refine zs_stk2 (zs_rfe e16) ?_
    obtain ⟨k17, h⟩ := h
    refine zc_1_313 (x0 := (zs_R S9 12001 b12)) (x1 := p4) hB rfl k17 d_1014_108 (Nat.le_of_ble_eq_true rfl) h (fun v19 S18 h => ?_)
    refine zu_stk d_1014_111 rfl rfl ?_
    refine zu_lstore d_1014_112 (zs_lt zq_1014 rfl) ?_
    exact (u_X2_field_114 hB h).weak ⟨rfl, rfl, rfl, rfl, rfl, rfl, rfl, rfl, trivial⟩
def w_X2_field_40 (X : zs_X) (d : Nat) (p0 : Nat) (p2 : Option Nat) (p3 : Int32) (p4 : Int32) (p5 : Int64) (p7 : Option Nat) (p8 : Int32) (p9 : Int32) (S : zs_T) (Q : zs_Q) : Prop :=
  (∃ b1, p7 = some b1 ∧ zs_K S b1 = some (.inl 13) ∧ ∃ b4, (zs_R S 13000 b1) = some b4 ∧ zs_K S b4 = some (.inl 16) ∧ zs_C X d 16001 [.ref b4] S (zs_kI (fun v8 S7 => (((v8 ≤ p9 → w_X2_field_120 X d p0 p2 p3 p4 p5 p7 p8 S7 Q) ∧ (¬ (v8 ≤ p9) → (((¬ p8 = 0 → w_X2_field_120 X d p0 p2 p3 p4 p5 p7 p8 S7 Q) ∧ (¬ (¬ p8 = 0) → (zs_K S7 b1 = some (.inl 13) ∧ ∃ b12, (zs_R S7 13000 b1) = some b12 ∧ zs_K S7 b12 = some (.inl 16) ∧ zs_C X d 16009 [.ref b12, .int p9] S7 (zs_kR (fun v16 S15 => (((¬ v16 = p2 → (w_X2_field_77 X d p0 p2 p3 p4 p5 p7 p9 (0 : Int32) S15 Q)) ∧ (¬ (¬ v16 = p2) → (w_X2_field_77 X d p0 p2 p3 p4 p5 p7 p9 (1 : Int32) S15 Q))))) Q))))))))) Q))
theorem u_X2_field_40 {σ : Nat → Nat} {n0 : Nat} {bf : ab_B} {d : Nat} {p0 : Nat} {p2 : Option Nat} {p3 : Int32} {p4 : Int32} {p5 : Int64} {p7 : Option Nat} {p8 : Int32} {p9 : Int32} {S : zs_T} {Q : zs_Q} (hB : zt_B bf) (h : w_X2_field_40 (zx σ n0 bf) d p0 p2 p3 p4 p5 p7 p8 p9 S Q) : zs_U (zx σ n0 bf) d 1014 40 [(0, .ref p0), (2, va_rf p2), (3, .int p3), (4, .int p4), (5, .long p5), (7, va_rf p7), (8, .int p8), (9, .int p9)] [] S Q := by
  unfold w_X2_field_40 at h
  refine zu_iload d_1014_40 rfl ?_
  refine zu_aload d_1014_42 rfl (zs_rr _) ?_
  obtain ⟨b1, e2, h⟩ := h
  refine zs_stk0 (zs_rfe e2) ?_
  obtain ⟨k3, h⟩ := h
  refine zg_1_331 rfl d_1014_44 k3 ?_
  obtain ⟨b4, e5, h⟩ := h
  refine zs_stk0 (zs_rfe e5) ?_
  obtain ⟨k6, h⟩ := h
  refine zc_1_336  hB rfl k6 d_1014_47 (Nat.le_of_ble_eq_true rfl) h (fun v8 S7 h => ?_)
  refine zu_cmpge (t := 120) d_1014_50 rfl (fun c9 => ?_) (fun c9 => ?_)
  · have h := h.1 c9
    exact (u_X2_field_120 hB h).weak ⟨rfl, rfl, rfl, rfl, rfl, rfl, rfl, trivial⟩
  · have h := h.2 c9
    refine zu_iload d_1014_53 rfl ?_
    refine zu_ifne (t := 120) d_1014_55 rfl (fun c10 => ?_) (fun c10 => ?_)
    · have h := h.1 c10
      exact (u_X2_field_120 hB h).weak ⟨rfl, rfl, rfl, rfl, rfl, rfl, rfl, trivial⟩
    · have h := h.2 c10
      refine zu_aload d_1014_58 rfl (zs_rr _) ?_
      refine zs_stk0 (zs_rfe e2) ?_
      obtain ⟨k11, h⟩ := h
      refine zg_1_331 rfl d_1014_60 k11 ?_
      refine zu_iload d_1014_63 rfl ?_
      obtain ⟨b12, e13, h⟩ := h
      refine zs_stk1 (zs_rfe e13) ?_
      obtain ⟨k14, h⟩ := h
      refine zc_1_162 (x0 := p9) hB rfl k14 d_1014_65 (Nat.le_of_ble_eq_true rfl) h (fun v16 S15 h => ?_)
      refine zu_aload_n d_1014_68 rfl (zs_rr _) ?_
      refine zu_acmpne (u := v16) (w := p2) (t := 76) d_1014_69 rfl rfl rfl (fun c17 => ?_) (fun c17 => ?_)
      · have h := h.1 c17
        refine zu_iconst d_1014_76 zi_0 ?_
        exact (u_X2_field_77 hB h).weak ⟨rfl, rfl, rfl, rfl, rfl, rfl, rfl, trivial⟩
      · have h := h.2 c17
        refine zu_iconst d_1014_72 zi_1 ?_
        refine zu_goto (t := 77) d_1014_73 rfl ?_
        exact (u_X2_field_77 hB h).weak ⟨rfl, rfl, rfl, rfl, rfl, rfl, rfl, trivial⟩
def w_X2_field_261 (X : zs_X) (d : Nat) (p3 : Int32) (q0 : Option Nat) (q1 : Int32) (S : zs_T) (Q : zs_Q) : Prop :=
  (∃ b1, q0 = some b1 ∧ zs_K S b1 = some (.inl 1) ∧ zs_C X d 1004 [.ref b1, .int q1, .int p3] S (zs_kI (fun v5 S4 => (Q (.returned none) S4)) Q))
theorem u_X2_field_261 {σ : Nat → Nat} {n0 : Nat} {bf : ab_B} {d : Nat} {p3 : Int32} {q0 : Option Nat} {q1 : Int32} {S : zs_T} {Q : zs_Q} (hB : zt_B bf) (h : w_X2_field_261 (zx σ n0 bf) d p3 q0 q1 S Q) : zs_U (zx σ n0 bf) d 1014 261 [(3, .int p3)] [.int q1, va_rf q0] S Q := by
  unfold w_X2_field_261 at h
  refine zu_iload_n d_1014_261 rfl ?_
  obtain ⟨b1, e2, h⟩ := h
  refine zs_stk2 (zs_rfe e2) ?_
  obtain ⟨k3, h⟩ := h
  refine zc_1_194 (x0 := q1) (x1 := p3) hB rfl k3 d_1014_262 (Nat.le_of_ble_eq_true rfl) h (fun v5 S4 h => ?_)
  refine zu_pop d_1014_265 rfl ?_
  exact zu_vret d_1014_266 zr_1014 h
def w_X2_field_250 (X : zs_X) (d : Nat) (p0 : Nat) (p3 : Int32) (p11 : Int32) (S : zs_T) (Q : zs_Q) : Prop :=
  (((p11 = 0 → (w_X2_field_261 X d p3 (some p0) (1 : Int32) S Q)) ∧ (¬ (p11 = 0) → (w_X2_field_261 X d p3 (some p0) (3 : Int32) S Q))))
theorem u_X2_field_250 {σ : Nat → Nat} {n0 : Nat} {bf : ab_B} {d : Nat} {p0 : Nat} {p3 : Int32} {p11 : Int32} {S : zs_T} {Q : zs_Q} (hB : zt_B bf) (h : w_X2_field_250 (zx σ n0 bf) d p0 p3 p11 S Q) : zs_U (zx σ n0 bf) d 1014 250 [(0, .ref p0), (3, .int p3), (11, .int p11)] [] S Q := by
  unfold w_X2_field_250 at h
  refine zu_aload_n d_1014_250 rfl (zs_ra _) ?_
  refine zu_iload d_1014_251 rfl ?_
  refine zu_ifeq (t := 260) d_1014_253 rfl (fun c1 => ?_) (fun c1 => ?_)
  · have h := h.1 c1
    refine zu_iconst d_1014_260 zi_1 ?_
    exact (u_X2_field_261 hB h).weak ⟨rfl, trivial⟩
  · have h := h.2 c1
    refine zu_iconst d_1014_256 zi_3 ?_
    refine zu_goto (t := 261) d_1014_257 rfl ?_
    exact (u_X2_field_261 hB h).weak ⟨rfl, trivial⟩
def w_X2_field_235 (X : zs_X) (d : Nat) (p0 : Nat) (p2 : Option Nat) (p3 : Int32) (p4 : Int32) (p5 : Int64) (p8 : Int32) (p9 : Option Nat) (p10 : Int32) (p11 : Int32) (S : zs_T) (Q : zs_Q) : Prop :=
  (zs_K S p0 = some (.inl 1) ∧ ∃ b2, (zs_R S 1001 p0) = some b2 ∧ zs_A S b2 3 p10 ∧ ∃ b5, p9 = some b5 ∧ zs_K S b5 = some (.inl 15) ∧ zs_C X d 15001 [.ref b5, .long (zs_j S b2 p10.toNatClampNeg)] S (zs_kI (fun v9 S8 => (((¬ v9 = 0 → (zs_K S8 b5 = some (.inl 15) ∧ zs_U X d 1014 32 [(0, .ref p0), (2, va_rf p2), (3, .int p3), (4, .int p4), (5, .long p5), (7, va_rf (zs_R S8 15002 b5)), (8, .int p8)] [] S8 Q)) ∧ (¬ (¬ v9 = 0) → w_X2_field_250 X d p0 p3 p11 S8 Q)))) Q))
theorem u_X2_field_235 {σ : Nat → Nat} {n0 : Nat} {bf : ab_B} {d : Nat} {p0 : Nat} {p2 : Option Nat} {p3 : Int32} {p4 : Int32} {p5 : Int64} {p8 : Int32} {p9 : Option Nat} {p10 : Int32} {p11 : Int32} {S : zs_T} {Q : zs_Q} (hB : zt_B bf) (h : w_X2_field_235 (zx σ n0 bf) d p0 p2 p3 p4 p5 p8 p9 p10 p11 S Q) : zs_U (zx σ n0 bf) d 1014 235 [(0, .ref p0), (2, va_rf p2), (3, .int p3), (4, .int p4), (5, .long p5), (8, .int p8), (9, va_rf p9), (10, .int p10), (11, .int p11)] [] S Q := by
  unfold w_X2_field_235 at h
  refine zu_aload d_1014_235 rfl (zs_rr _) ?_
  refine zu_aload_n d_1014_237 rfl (zs_ra _) ?_
  obtain ⟨k1, h⟩ := h
  refine zg_1_10 rfl d_1014_238 k1 ?_
  refine zu_iload d_1014_241 rfl ?_
  obtain ⟨b2, e3, h⟩ := h
  refine zs_stk1 (zs_rfe e3) ?_
  obtain ⟨k4, h⟩ := h
  refine zu_lald (k := 3) d_1014_243 rfl rfl k4 ?_
  obtain ⟨b5, e6, h⟩ := h
  refine zs_stk1 (zs_rfe e6) ?_
  obtain ⟨k7, h⟩ := h
  refine zc_1_350 (x0 := (zs_j S b2 p10.toNatClampNeg)) hB rfl k7 d_1014_244 (Nat.le_of_ble_eq_true rfl) h (fun v9 S8 h => ?_)
  refine zu_ifne (t := 267) d_1014_247 rfl (fun c10 => ?_) (fun c10 => ?_)
  · have h := h.1 c10
    refine zu_aload d_1014_267 rfl (zs_rr _) ?_
    refine zs_stk0 (zs_rfe e6) ?_
    obtain ⟨k11, h⟩ := h
    refine zg_1_353 rfl d_1014_269 k11 ?_
    refine zu_astore d_1014_272 (zs_rr _) (zs_lt zq_1014 rfl) ?_
    refine zu_goto (t := 32) d_1014_274 rfl ?_
    exact h.weak ⟨rfl, rfl, rfl, rfl, rfl, rfl, rfl, trivial⟩
  · have h := h.2 c10
    exact (u_X2_field_250 hB h).weak ⟨rfl, rfl, rfl, trivial⟩
def w_X2_field_202 (X : zs_X) (d : Nat) (p0 : Nat) (p2 : Option Nat) (p3 : Int32) (p4 : Int32) (p5 : Int64) (p7 : Option Nat) (p8 : Int32) (p9 : Option Nat) (S : zs_T) (Q : zs_Q) : Prop :=
  (∃ b1, p7 = some b1 ∧ zs_K S b1 = some (.inl 13) ∧ ∃ b4, (zs_R S 13001 b1) = some b4 ∧ zs_K S b4 = some (.inl 14) ∧ ∃ b7, (zs_R S 14000 b4) = some b7 ∧ zs_K S b7 = some (.inl 12) ∧ zs_K S p0 = some (.inl 1) ∧ zs_C X d 1016 [.ref p0, .int (((p5).toInt32) - (1 : Int32)), .int p4, va_rf (zs_R S 12001 b7)] S (zs_kI (fun v12 S11 => (((v12 = 0 → w_X2_field_250 X d p0 p3 v12 S11 Q) ∧ (¬ (v12 = 0) → w_X2_field_235 X d p0 p2 p3 p4 p5 p8 p9 (((p5).toInt32) - (1 : Int32)) v12 S11 Q)))) Q))
theorem u_X2_field_202 {σ : Nat → Nat} {n0 : Nat} {bf : ab_B} {d : Nat} {p0 : Nat} {p2 : Option Nat} {p3 : Int32} {p4 : Int32} {p5 : Int64} {p7 : Option Nat} {p8 : Int32} {p9 : Option Nat} {S : zs_T} {Q : zs_Q} (hB : zt_B bf) (h : w_X2_field_202 (zx σ n0 bf) d p0 p2 p3 p4 p5 p7 p8 p9 S Q) : zs_U (zx σ n0 bf) d 1014 202 [(0, .ref p0), (2, va_rf p2), (3, .int p3), (4, .int p4), (5, .long p5), (7, va_rf p7), (8, .int p8), (9, va_rf p9)] [] S Q := by
  unfold w_X2_field_202 at h
  refine zu_lload d_1014_202 rfl ?_
  refine zu_stk d_1014_204 rfl rfl ?_
  refine zu_iconst d_1014_205 zi_1 ?_
  refine zu_stk d_1014_206 rfl rfl ?_
  refine zu_istore d_1014_207 (zs_lt zq_1014 rfl) ?_
  refine zs_U.weak (L1 := [(10, .int (((p5).toInt32) - (1 : Int32))), (0, .ref p0), (2, va_rf p2), (3, .int p3), (4, .int p4), (5, .long p5), (7, va_rf p7), (8, .int p8), (9, va_rf p9)]) ?_ ⟨rfl, zs_gp1 rfl (Or.inl rfl) rfl, zs_gp1 rfl (Or.inl (zs_cat _)) rfl, zs_gp1 rfl (Or.inl rfl) rfl, zs_gp1 rfl (Or.inl rfl) rfl, zs_gp1 rfl (Or.inr rfl) rfl, zs_gp1 rfl (Or.inl (zs_cat _)) rfl, zs_gp1 rfl (Or.inl rfl) rfl, zs_gp1 rfl (Or.inl (zs_cat _)) rfl, trivial⟩
  refine zu_aload_n d_1014_209 rfl (zs_ra _) ?_
  refine zu_iload d_1014_210 rfl ?_
  refine zu_iload d_1014_212 rfl ?_
  refine zu_aload d_1014_214 rfl (zs_rr _) ?_
  obtain ⟨b1, e2, h⟩ := h
  refine zs_stk0 (zs_rfe e2) ?_
  obtain ⟨k3, h⟩ := h
  refine zg_1_342 rfl d_1014_216 k3 ?_
  obtain ⟨b4, e5, h⟩ := h
  refine zs_stk0 (zs_rfe e5) ?_
  obtain ⟨k6, h⟩ := h
  refine zg_1_325 rfl d_1014_219 k6 ?_
  obtain ⟨b7, e8, h⟩ := h
  refine zs_stk0 (zs_rfe e8) ?_
  obtain ⟨k9, h⟩ := h
  refine zg_1_339 rfl d_1014_222 k9 ?_
  obtain ⟨k10, h⟩ := h
  refine zc_1_265 (x0 := (((p5).toInt32) - (1 : Int32))) (x1 := p4) (x2 := (zs_R S 12001 b7)) hB rfl k10 d_1014_225 (Nat.le_of_ble_eq_true rfl) h (fun v12 S11 h => ?_)
  refine zu_istore d_1014_228 (zs_lt zq_1014 rfl) ?_
  refine zu_iload d_1014_230 rfl ?_
  refine zu_ifeq (t := 250) d_1014_232 rfl (fun c13 => ?_) (fun c13 => ?_)
  · have h := h.1 c13
    exact (u_X2_field_250 hB h).weak ⟨rfl, rfl, rfl, trivial⟩
  · have h := h.2 c13
    exact (u_X2_field_235 hB h).weak ⟨rfl, rfl, rfl, rfl, rfl, rfl, rfl, rfl, rfl, trivial⟩
def w_X2_field_196 (X : zs_X) (d : Nat) (p0 : Nat) (p2 : Option Nat) (p3 : Int32) (p4 : Int32) (p5 : Int64) (p7 : Option Nat) (p8 : Int32) (p9 : Option Nat) (p10 : Int32) (S : zs_T) (Q : zs_Q) : Prop :=
  (zs_U X d 1014 134 [(0, .ref p0), (2, va_rf p2), (3, .int p3), (4, .int p4), (5, .long p5), (7, va_rf p7), (8, .int p8), (9, va_rf p9), (10, .int (p10 + (1 : Int32)))] [] S Q)
theorem u_X2_field_196 {σ : Nat → Nat} {n0 : Nat} {bf : ab_B} {d : Nat} {p0 : Nat} {p2 : Option Nat} {p3 : Int32} {p4 : Int32} {p5 : Int64} {p7 : Option Nat} {p8 : Int32} {p9 : Option Nat} {p10 : Int32} {S : zs_T} {Q : zs_Q} (hB : zt_B bf) (h : w_X2_field_196 (zx σ n0 bf) d p0 p2 p3 p4 p5 p7 p8 p9 p10 S Q) : zs_U (zx σ n0 bf) d 1014 196 [(0, .ref p0), (2, va_rf p2), (3, .int p3), (4, .int p4), (5, .long p5), (7, va_rf p7), (8, .int p8), (9, va_rf p9), (10, .int p10)] [] S Q := by
  unfold w_X2_field_196 at h
  refine zu_iinc d_1014_196 rfl zi_1 (zs_lt zq_1014 rfl) ?_
  refine zs_U.weak (L1 := [(10, .int (p10 + (1 : Int32))), (0, .ref p0), (2, va_rf p2), (3, .int p3), (4, .int p4), (5, .long p5), (7, va_rf p7), (8, .int p8), (9, va_rf p9)]) ?_ ⟨rfl, zs_gp1 rfl (Or.inl rfl) rfl, zs_gp1 rfl (Or.inl (zs_cat _)) rfl, zs_gp1 rfl (Or.inl rfl) rfl, zs_gp1 rfl (Or.inl rfl) rfl, zs_gp1 rfl (Or.inr rfl) rfl, zs_gp1 rfl (Or.inl (zs_cat _)) rfl, zs_gp1 rfl (Or.inl rfl) rfl, zs_gp1 rfl (Or.inl (zs_cat _)) rfl, trivial⟩
  refine zu_goto (t := 134) d_1014_199 rfl ?_
  exact h.weak ⟨rfl, rfl, rfl, rfl, rfl, rfl, rfl, rfl, rfl, trivial⟩
def w_X2_field_178 (X : zs_X) (d : Nat) (p0 : Nat) (p2 : Option Nat) (p3 : Int32) (p4 : Int32) (p5 : Int64) (p7 : Option Nat) (p8 : Int32) (p10 : Int32) (S : zs_T) (Q : zs_Q) : Prop :=
  (∃ b1, p7 = some b1 ∧ zs_K S b1 = some (.inl 13) ∧ ∃ b4, (zs_R S 13001 b1) = some b4 ∧ zs_K S b4 = some (.inl 14) ∧ ∃ b7, (zs_R S 14001 b4) = some b7 ∧ zs_K S b7 = some (.inl 16) ∧ zs_C X d 16009 [.ref b7, .int p10] S (zs_kR (fun v11 S10 => ((∀ a, v11 = some a → zs_K S10 a = some (.inl 15)) ∧ w_X2_field_196 X d p0 p2 p3 p4 p5 p7 p8 v11 p10 S10 Q)) Q))
theorem u_X2_field_178 {σ : Nat → Nat} {n0 : Nat} {bf : ab_B} {d : Nat} {p0 : Nat} {p2 : Option Nat} {p3 : Int32} {p4 : Int32} {p5 : Int64} {p7 : Option Nat} {p8 : Int32} {p10 : Int32} {S : zs_T} {Q : zs_Q} (hB : zt_B bf) (h : w_X2_field_178 (zx σ n0 bf) d p0 p2 p3 p4 p5 p7 p8 p10 S Q) : zs_U (zx σ n0 bf) d 1014 178 [(0, .ref p0), (2, va_rf p2), (3, .int p3), (4, .int p4), (5, .long p5), (7, va_rf p7), (8, .int p8), (10, .int p10)] [] S Q := by
  unfold w_X2_field_178 at h
  refine zu_aload d_1014_178 rfl (zs_rr _) ?_
  obtain ⟨b1, e2, h⟩ := h
  refine zs_stk0 (zs_rfe e2) ?_
  obtain ⟨k3, h⟩ := h
  refine zg_1_342 rfl d_1014_180 k3 ?_
  obtain ⟨b4, e5, h⟩ := h
  refine zs_stk0 (zs_rfe e5) ?_
  obtain ⟨k6, h⟩ := h
  refine zg_1_343 rfl d_1014_183 k6 ?_
  refine zu_iload d_1014_186 rfl ?_
  obtain ⟨b7, e8, h⟩ := h
  refine zs_stk1 (zs_rfe e8) ?_
  obtain ⟨k9, h⟩ := h
  refine zc_1_162 (x0 := p10) hB rfl k9 d_1014_188 (Nat.le_of_ble_eq_true rfl) h (fun v11 S10 h => ?_)
  obtain ⟨k12, h⟩ := h
  refine zk_1_321 (o := v11) rfl d_1014_191 k12 ?_
  refine zu_astore d_1014_194 (zs_rr _) (zs_lt zq_1014 rfl) ?_
  exact (u_X2_field_196 hB h).weak ⟨rfl, rfl, rfl, rfl, rfl, rfl, rfl, rfl, rfl, trivial⟩
def w_X2_field_134 (X : zs_X) (d : Nat) (p0 : Nat) (p2 : Option Nat) (p3 : Int32) (p4 : Int32) (p5 : Int64) (p7 : Option Nat) (p8 : Int32) (p9 : Option Nat) (p10 : Int32) (S : zs_T) (Q : zs_Q) : Prop :=
  (∃ b1, p7 = some b1 ∧ zs_K S b1 = some (.inl 13) ∧ ∃ b4, (zs_R S 13001 b1) = some b4 ∧ zs_K S b4 = some (.inl 14) ∧ ∃ b7, (zs_R S 14001 b4) = some b7 ∧ zs_K S b7 = some (.inl 16) ∧ zs_C X d 16001 [.ref b7] S (zs_kI (fun v11 S10 => (((v11 ≤ p10 → w_X2_field_202 X d p0 p2 p3 p4 p5 p7 p8 p9 S10 Q) ∧ (¬ (v11 ≤ p10) → (((p9 = none → (zs_K S10 b1 = some (.inl 13) ∧ ∃ b16, (zs_R S10 13001 b1) = some b16 ∧ zs_K S10 b16 = some (.inl 14) ∧ ∃ b19, (zs_R S10 14001 b16) = some b19 ∧ zs_K S10 b19 = some (.inl 16) ∧ zs_C X d 16009 [.ref b19, .int p10] S10 (zs_kR (fun v23 S22 => ((∀ a, v23 = some a → zs_K S22 a = some (.inl 15)) ∧ zs_C X d 1015 [va_rf p2, va_rf v23] S22 (zs_kI (fun v26 S25 => (((v26 = 0 → w_X2_field_196 X d p0 p2 p3 p4 p5 p7 p8 p9 p10 S25 Q) ∧ (¬ (v26 = 0) → w_X2_field_178 X d p0 p2 p3 p4 p5 p7 p8 p10 S25 Q)))) Q))) Q))) ∧ (∀ b13, p9 = some b13 → w_X2_field_202 X d p0 p2 p3 p4 p5 p7 p8 p9 S10 Q))))))) Q))
theorem u_X2_field_134 {σ : Nat → Nat} {n0 : Nat} {bf : ab_B} {d : Nat} {p0 : Nat} {p2 : Option Nat} {p3 : Int32} {p4 : Int32} {p5 : Int64} {p7 : Option Nat} {p8 : Int32} {p9 : Option Nat} {p10 : Int32} {S : zs_T} {Q : zs_Q} (hB : zt_B bf) (h : w_X2_field_134 (zx σ n0 bf) d p0 p2 p3 p4 p5 p7 p8 p9 p10 S Q) : zs_U (zx σ n0 bf) d 1014 134 [(0, .ref p0), (2, va_rf p2), (3, .int p3), (4, .int p4), (5, .long p5), (7, va_rf p7), (8, .int p8), (9, va_rf p9), (10, .int p10)] [] S Q := by
  unfold w_X2_field_134 at h
  refine zu_iload d_1014_134 rfl ?_
  refine zu_aload d_1014_136 rfl (zs_rr _) ?_
  obtain ⟨b1, e2, h⟩ := h
  refine zs_stk0 (zs_rfe e2) ?_
  obtain ⟨k3, h⟩ := h
  refine zg_1_342 rfl d_1014_138 k3 ?_
  obtain ⟨b4, e5, h⟩ := h
  refine zs_stk0 (zs_rfe e5) ?_
  obtain ⟨k6, h⟩ := h
  refine zg_1_343 rfl d_1014_141 k6 ?_
  obtain ⟨b7, e8, h⟩ := h
  refine zs_stk0 (zs_rfe e8) ?_
  obtain ⟨k9, h⟩ := h
  refine zc_1_336  hB rfl k9 d_1014_144 (Nat.le_of_ble_eq_true rfl) h (fun v11 S10 h => ?_)
  refine zu_cmpge (t := 202) d_1014_147 rfl (fun c12 => ?_) (fun c12 => ?_)
  · have h := h.1 c12
    exact (u_X2_field_202 hB h).weak ⟨rfl, rfl, rfl, rfl, rfl, rfl, rfl, rfl, trivial⟩
  · have h := h.2 c12
    refine zu_aload d_1014_150 rfl (zs_rr _) ?_
    refine zu_ifnonnull (u := p9) (t := 202) d_1014_152 rfl rfl (fun b13 e14 => ?_) (fun e14 => ?_)
    · have h := h.2 b13 e14
      exact (u_X2_field_202 hB h).weak ⟨rfl, rfl, rfl, rfl, rfl, rfl, rfl, rfl, trivial⟩
    · have h := h.1 e14
      refine zu_aload_n d_1014_155 rfl (zs_rr _) ?_
      refine zu_aload d_1014_156 rfl (zs_rr _) ?_
      refine zs_stk0 (zs_rfe e2) ?_
      obtain ⟨k15, h⟩ := h
      refine zg_1_342 rfl d_1014_158 k15 ?_
      obtain ⟨b16, e17, h⟩ := h
      refine zs_stk0 (zs_rfe e17) ?_
      obtain ⟨k18, h⟩ := h
      refine zg_1_343 rfl d_1014_161 k18 ?_
      refine zu_iload d_1014_164 rfl ?_
      obtain ⟨b19, e20, h⟩ := h
      refine zs_stk1 (zs_rfe e20) ?_
      obtain ⟨k21, h⟩ := h
      refine zc_1_162 (x0 := p10) hB rfl k21 d_1014_166 (by simp only [List.map_cons, List.map_nil, List.sum_cons, List.sum_nil, zs_cat, zs_cI, zs_cJ, zs_cA]; exact Nat.le_of_ble_eq_true rfl) h (fun v23 S22 h => ?_)
      obtain ⟨k24, h⟩ := h
      refine zk_1_321 (o := v23) rfl d_1014_169 k24 ?_
      refine zc_1_346 (x0 := p2) (x1 := v23) hB rfl d_1014_172 (Nat.le_of_ble_eq_true rfl) h (fun v26 S25 h => ?_)
      refine zu_ifeq (t := 196) d_1014_175 rfl (fun c27 => ?_) (fun c27 => ?_)
      · have h := h.1 c27
        exact (u_X2_field_196 hB h).weak ⟨rfl, rfl, rfl, rfl, rfl, rfl, rfl, rfl, rfl, trivial⟩
      · have h := h.2 c27
        exact (u_X2_field_178 hB h).weak ⟨rfl, rfl, rfl, rfl, rfl, rfl, rfl, rfl, trivial⟩
def w_X2_field (X : zs_X) (d : Nat) (p0 : Nat) (p1 : Option Nat) (p2 : Option Nat) (p3 : Int32) (S : zs_T) (Q : zs_Q) : Prop :=
  (zs_K S p0 = some (.inl 1) ∧ ∃ b2, (zs_R S 1006 p0) = some b2 ∧ zs_A S b2 0 ((zs_I S 1007 p0) - (1 : Int32)) ∧ ∃ b5, (zs_R S 1005 p0) = some b5 ∧ zs_A S b5 3 ((zs_I S 1007 p0) - (1 : Int32)) ∧ w_X2_field_26 X d p0 p1 p2 p3 (zs_i S b2 ((zs_I S 1007 p0) - (1 : Int32)).toNatClampNeg) (zs_j S b5 ((zs_I S 1007 p0) - (1 : Int32)).toNatClampNeg) S Q)
theorem u_X2_field {σ : Nat → Nat} {n0 : Nat} {bf : ab_B} {d : Nat} {p0 : Nat} {p1 : Option Nat} {p2 : Option Nat} {p3 : Int32} {S : zs_T} {Q : zs_Q} (hB : zt_B bf) (hd : 1 ≤ d) (h : w_X2_field (zx σ n0 bf) (d - 1) p0 p1 p2 p3 S Q) : zs_C (zx σ n0 bf) d 1014 [.ref p0, va_rf p1, va_rf p2, .int p3] S Q := by
  have hL : lv_args 0 [.ref p0, va_rf p1, va_rf p2, .int p3] = [(0, .ref p0), (1, va_rf p1), (2, va_rf p2), (3, .int p3)] := by simp [lv_args, zs_cat, zs_cI, zs_cJ, zs_cA]
  refine zs_C.of1 (hB.2 1014 (by decide) (by decide)) hd (by rw [hL]; exact zs_sub_self _ (by exact ⟨rfl, rfl, rfl, rfl, trivial⟩)) ?_
  rw [hL]
  clear hL
  unfold w_X2_field at h
  refine zu_aload_n d_1014_0 rfl (zs_ra _) ?_
  obtain ⟨k1, h⟩ := h
  refine zg_1_39 rfl d_1014_1 k1 ?_
  refine zu_aload_n d_1014_4 rfl (zs_ra _) ?_
  refine zg_1_111 rfl d_1014_5 k1 ?_
  refine zu_iconst d_1014_8 zi_1 ?_
  refine zu_stk d_1014_9 rfl rfl ?_
  obtain ⟨b2, e3, h⟩ := h
  refine zs_stk1 (zs_rfe e3) ?_
  obtain ⟨k4, h⟩ := h
  refine zu_iald (k := 0) d_1014_10 rfl rfl k4 ?_
  refine zu_istore d_1014_11 (zs_lt zq_1014 rfl) ?_
  refine zu_aload_n d_1014_13 rfl (zs_ra _) ?_
  refine zg_1_36 rfl d_1014_14 k1 ?_
  refine zu_aload_n d_1014_17 rfl (zs_ra _) ?_
  refine zg_1_111 rfl d_1014_18 k1 ?_
  refine zu_iconst d_1014_21 zi_1 ?_
  refine zu_stk d_1014_22 rfl rfl ?_
  obtain ⟨b5, e6, h⟩ := h
  refine zs_stk1 (zs_rfe e6) ?_
  obtain ⟨k7, h⟩ := h
  refine zu_lald (k := 3) d_1014_23 rfl rfl k7 ?_
  refine zu_lstore d_1014_24 (zs_lt zq_1014 rfl) ?_
  exact (u_X2_field_26 hB h).weak ⟨rfl, rfl, rfl, rfl, rfl, rfl, trivial⟩
/-! SchemaPascal$Machine.lies(LSchemaPascal$Field;LSchemaPascal$Variant;)Z -/
theorem zm_1015 {σ : Nat → Nat} {n0 : Nat} {bf : ab_B} : ab_code (zx σ n0 bf).1 1015 = prog_5_method_15_code := rfl
theorem zq_1015 {σ : Nat → Nat} {n0 : Nat} {bf : ab_B} : ab_maxL (zx σ n0 bf).1 1015 = 3 := rfl
theorem zr_1015 {σ : Nat → Nat} {n0 : Nat} {bf : ab_B} : ab_ret (zx σ n0 bf).1 1015 = (Option.some Jvm.ClassFile.FieldType.boolean) := rfl
theorem d_1015_0 {σ : Nat → Nat} {n0 : Nat} {bf : ab_B} : decode (ab_code (zx σ n0 bf).1 1015) 0 = .ok (.aload_n 0, 1) := zd zm_1015 (by decide +kernel)
theorem d_1015_1 {σ : Nat → Nat} {n0 : Nat} {bf : ab_B} : decode (ab_code (zx σ n0 bf).1 1015) 1 = .ok (.getfield 316, 3) := zd zm_1015 (by decide +kernel)
theorem d_1015_4 {σ : Nat → Nat} {n0 : Nat} {bf : ab_B} : decode (ab_code (zx σ n0 bf).1 1015) 4 = .ok (.astore_n 2, 1) := zd zm_1015 (by decide +kernel)
theorem d_1015_5 {σ : Nat → Nat} {n0 : Nat} {bf : ab_B} : decode (ab_code (zx σ n0 bf).1 1015) 5 = .ok (.aload_n 2, 1) := zd zm_1015 (by decide +kernel)
theorem d_1015_6 {σ : Nat → Nat} {n0 : Nat} {bf : ab_B} : decode (ab_code (zx σ n0 bf).1 1015) 6 = .ok (.ifnull 22, 3) := zd zm_1015 (by decide +kernel)
theorem d_1015_9 {σ : Nat → Nat} {n0 : Nat} {bf : ab_B} : decode (ab_code (zx σ n0 bf).1 1015) 9 = .ok (.aload_n 2, 1) := zd zm_1015 (by decide +kernel)
theorem d_1015_10 {σ : Nat → Nat} {n0 : Nat} {bf : ab_B} : decode (ab_code (zx σ n0 bf).1 1015) 10 = .ok (.aload_n 1, 1) := zd zm_1015 (by decide +kernel)
theorem d_1015_11 {σ : Nat → Nat} {n0 : Nat} {bf : ab_B} : decode (ab_code (zx σ n0 bf).1 1015) 11 = .ok (.if_acmp .eq 17, 3) := zd zm_1015 (by decide +kernel)
theorem d_1015_14 {σ : Nat → Nat} {n0 : Nat} {bf : ab_B} : decode (ab_code (zx σ n0 bf).1 1015) 14 = .ok (.aload_n 2, 1) := zd zm_1015 (by decide +kernel)
theorem d_1015_15 {σ : Nat → Nat} {n0 : Nat} {bf : ab_B} : decode (ab_code (zx σ n0 bf).1 1015) 15 = .ok (.getfield 320, 3) := zd zm_1015 (by decide +kernel)
theorem d_1015_18 {σ : Nat → Nat} {n0 : Nat} {bf : ab_B} : decode (ab_code (zx σ n0 bf).1 1015) 18 = .ok (.getfield 325, 3) := zd zm_1015 (by decide +kernel)
theorem d_1015_21 {σ : Nat → Nat} {n0 : Nat} {bf : ab_B} : decode (ab_code (zx σ n0 bf).1 1015) 21 = .ok (.getfield 316, 3) := zd zm_1015 (by decide +kernel)
theorem d_1015_24 {σ : Nat → Nat} {n0 : Nat} {bf : ab_B} : decode (ab_code (zx σ n0 bf).1 1015) 24 = .ok (.astore_n 2, 1) := zd zm_1015 (by decide +kernel)
theorem d_1015_25 {σ : Nat → Nat} {n0 : Nat} {bf : ab_B} : decode (ab_code (zx σ n0 bf).1 1015) 25 = .ok (.goto (-20), 3) := zd zm_1015 (by decide +kernel)
theorem d_1015_28 {σ : Nat → Nat} {n0 : Nat} {bf : ab_B} : decode (ab_code (zx σ n0 bf).1 1015) 28 = .ok (.aload_n 2, 1) := zd zm_1015 (by decide +kernel)
theorem d_1015_29 {σ : Nat → Nat} {n0 : Nat} {bf : ab_B} : decode (ab_code (zx σ n0 bf).1 1015) 29 = .ok (.aload_n 1, 1) := zd zm_1015 (by decide +kernel)
theorem d_1015_30 {σ : Nat → Nat} {n0 : Nat} {bf : ab_B} : decode (ab_code (zx σ n0 bf).1 1015) 30 = .ok (.if_acmp .ne 7, 3) := zd zm_1015 (by decide +kernel)
theorem d_1015_33 {σ : Nat → Nat} {n0 : Nat} {bf : ab_B} : decode (ab_code (zx σ n0 bf).1 1015) 33 = .ok (.iconst 1, 1) := zd zm_1015 (by decide +kernel)
theorem d_1015_34 {σ : Nat → Nat} {n0 : Nat} {bf : ab_B} : decode (ab_code (zx σ n0 bf).1 1015) 34 = .ok (.goto 4, 3) := zd zm_1015 (by decide +kernel)
theorem d_1015_37 {σ : Nat → Nat} {n0 : Nat} {bf : ab_B} : decode (ab_code (zx σ n0 bf).1 1015) 37 = .ok (.iconst 0, 1) := zd zm_1015 (by decide +kernel)
theorem d_1015_38 {σ : Nat → Nat} {n0 : Nat} {bf : ab_B} : decode (ab_code (zx σ n0 bf).1 1015) 38 = .ok (.ireturn, 1) := zd zm_1015 (by decide +kernel)
def w_X2_lies_28 (X : zs_X) (d : Nat) (p1 : Option Nat) (p2 : Option Nat) (S : zs_T) (Q : zs_Q) : Prop :=
  (((¬ p2 = p1 → (Q (.returned (some (.int (0 : Int32)))) S)) ∧ (¬ (¬ p2 = p1) → (Q (.returned (some (.int (1 : Int32)))) S))))
theorem u_X2_lies_28 {σ : Nat → Nat} {n0 : Nat} {bf : ab_B} {d : Nat} {p1 : Option Nat} {p2 : Option Nat} {S : zs_T} {Q : zs_Q} (hB : zt_B bf) (h : w_X2_lies_28 (zx σ n0 bf) d p1 p2 S Q) : zs_U (zx σ n0 bf) d 1015 28 [(1, va_rf p1), (2, va_rf p2)] [] S Q := by
  unfold w_X2_lies_28 at h
  refine zu_aload_n d_1015_28 rfl (zs_rr _) ?_
  refine zu_aload_n d_1015_29 rfl (zs_rr _) ?_
  refine zu_acmpne (u := p2) (w := p1) (t := 37) d_1015_30 rfl rfl rfl (fun c1 => ?_) (fun c1 => ?_)
  · have h := h.1 c1
    refine zu_iconst d_1015_37 zi_0 ?_
    exact zu_iret d_1015_38 zr_1015 (zs_b_n (Or.inl rfl)) h
  · have h := h.2 c1
    refine zu_iconst d_1015_33 zi_1 ?_
    refine zu_goto (t := 38) d_1015_34 rfl ?_
    exact zu_iret d_1015_38 zr_1015 (zs_b_n (Or.inr rfl)) h
def w_X2_lies_5 (X : zs_X) (d : Nat) (p1 : Option Nat) (p2 : Option Nat) (S : zs_T) (Q : zs_Q) : Prop :=
  (((p2 = none → w_X2_lies_28 X d p1 p2 S Q) ∧ (∀ b1, p2 = some b1 → (((p2 = p1 → w_X2_lies_28 X d p1 p2 S Q) ∧ (¬ (p2 = p1) → (zs_K S b1 = some (.inl 15) ∧ ∃ b5, (zs_R S 15000 b1) = some b5 ∧ zs_K S b5 = some (.inl 14) ∧ ∃ b8, (zs_R S 14000 b5) = some b8 ∧ zs_K S b8 = some (.inl 12) ∧ zs_U X d 1015 5 [(1, va_rf p1), (2, va_rf (zs_R S 12002 b8))] [] S Q)))))))
theorem u_X2_lies_5 {σ : Nat → Nat} {n0 : Nat} {bf : ab_B} {d : Nat} {p1 : Option Nat} {p2 : Option Nat} {S : zs_T} {Q : zs_Q} (hB : zt_B bf) (h : w_X2_lies_5 (zx σ n0 bf) d p1 p2 S Q) : zs_U (zx σ n0 bf) d 1015 5 [(1, va_rf p1), (2, va_rf p2)] [] S Q := by
  unfold w_X2_lies_5 at h
  refine zu_aload_n d_1015_5 rfl (zs_rr _) ?_
  refine zu_ifnull (u := p2) (t := 28) d_1015_6 rfl rfl (fun e2 => ?_) (fun b1 e2 => ?_)
  · have h := h.1 e2
    exact (u_X2_lies_28 hB h).weak ⟨rfl, rfl, trivial⟩
  · have h := h.2 b1 e2
    refine zu_aload_n d_1015_9 rfl (zs_rr _) ?_
    refine zu_aload_n d_1015_10 rfl (zs_rr _) ?_
    refine zu_acmpeq (u := p2) (w := p1) (t := 28) d_1015_11 rfl rfl rfl (fun c3 => ?_) (fun c3 => ?_)
    · have h := h.1 c3
      exact (u_X2_lies_28 hB h).weak ⟨rfl, rfl, trivial⟩
    · have h := h.2 c3
      refine zu_aload_n d_1015_14 rfl (zs_rr _) ?_
      refine zs_stk0 (zs_rfe e2) ?_
      obtain ⟨k4, h⟩ := h
      refine zg_1_320 rfl d_1015_15 k4 ?_
      obtain ⟨b5, e6, h⟩ := h
      refine zs_stk0 (zs_rfe e6) ?_
      obtain ⟨k7, h⟩ := h
      refine zg_1_325 rfl d_1015_18 k7 ?_
      obtain ⟨b8, e9, h⟩ := h
      refine zs_stk0 (zs_rfe e9) ?_
      obtain ⟨k10, h⟩ := h
      refine zg_1_316 rfl d_1015_21 k10 ?_
      refine zu_astore_n d_1015_24 (zs_rr _) (zs_lt zq_1015 rfl) ?_
      refine zs_U.weak (L1 := [(2, va_rf (zs_R S 12002 b8)), (1, va_rf p1)]) ?_ ⟨rfl, zs_gp1 rfl (Or.inl (zs_cat _)) rfl, trivial⟩
      refine zu_goto (t := 5) d_1015_25 rfl ?_
      exact h.weak ⟨rfl, rfl, trivial⟩
def w_X2_lies (X : zs_X) (d : Nat) (p0 : Option Nat) (p1 : Option Nat) (S : zs_T) (Q : zs_Q) : Prop :=
  (∃ b1, p0 = some b1 ∧ zs_K S b1 = some (.inl 12) ∧ zs_U X d 1015 5 [(1, va_rf p1), (2, va_rf (zs_R S 12002 b1))] [] S Q)
theorem u_X2_lies {σ : Nat → Nat} {n0 : Nat} {bf : ab_B} {d : Nat} {p0 : Option Nat} {p1 : Option Nat} {S : zs_T} {Q : zs_Q} (hB : zt_B bf) (hd : 1 ≤ d) (h : w_X2_lies (zx σ n0 bf) (d - 1) p0 p1 S Q) : zs_C (zx σ n0 bf) d 1015 [va_rf p0, va_rf p1] S Q := by
  have hL : lv_args 0 [va_rf p0, va_rf p1] = [(0, va_rf p0), (1, va_rf p1)] := by simp [lv_args, zs_cat, zs_cI, zs_cJ, zs_cA]
  refine zs_C.of1 (hB.2 1015 (by decide) (by decide)) hd (by rw [hL]; exact zs_sub_self _ (by exact ⟨rfl, rfl, trivial⟩)) ?_
  rw [hL]
  clear hL
  unfold w_X2_lies at h
  refine zu_aload_n d_1015_0 rfl (zs_rr _) ?_
  obtain ⟨b1, e2, h⟩ := h
  refine zs_stk0 (zs_rfe e2) ?_
  obtain ⟨k3, h⟩ := h
  refine zg_1_316 rfl d_1015_1 k3 ?_
  refine zu_astore_n d_1015_4 (zs_rr _) (zs_lt zq_1015 rfl) ?_
  refine zs_U.weak (L1 := [(2, va_rf (zs_R S 12002 b1)), (0, va_rf p0), (1, va_rf p1)]) ?_ ⟨rfl, zs_gp1 rfl (Or.inl (zs_cat _)) rfl, zs_gp1 rfl (Or.inl (zs_cat _)) rfl, trivial⟩
  exact h.weak ⟨rfl, rfl, trivial⟩
/-! SchemaPascal$Machine.tells(IILSchemaPascal$Type;)Z -/
theorem zm_1016 {σ : Nat → Nat} {n0 : Nat} {bf : ab_B} : ab_code (zx σ n0 bf).1 1016 = prog_5_method_24_code := rfl
theorem zq_1016 {σ : Nat → Nat} {n0 : Nat} {bf : ab_B} : ab_maxL (zx σ n0 bf).1 1016 = 4 := rfl
theorem zr_1016 {σ : Nat → Nat} {n0 : Nat} {bf : ab_B} : ab_ret (zx σ n0 bf).1 1016 = (Option.some Jvm.ClassFile.FieldType.boolean) := rfl
theorem d_1016_0 {σ : Nat → Nat} {n0 : Nat} {bf : ab_B} : decode (ab_code (zx σ n0 bf).1 1016) 0 = .ok (.aload_n 0, 1) := zd zm_1016 (by decide +kernel)
theorem d_1016_1 {σ : Nat → Nat} {n0 : Nat} {bf : ab_B} : decode (ab_code (zx σ n0 bf).1 1016) 1 = .ok (.getfield 17, 3) := zd zm_1016 (by decide +kernel)
theorem d_1016_4 {σ : Nat → Nat} {n0 : Nat} {bf : ab_B} : decode (ab_code (zx σ n0 bf).1 1016) 4 = .ok (.iload_n 1, 1) := zd zm_1016 (by decide +kernel)
theorem d_1016_5 {σ : Nat → Nat} {n0 : Nat} {bf : ab_B} : decode (ab_code (zx σ n0 bf).1 1016) 5 = .ok (.baload, 1) := zd zm_1016 (by decide +kernel)
theorem d_1016_6 {σ : Nat → Nat} {n0 : Nat} {bf : ab_B} : decode (ab_code (zx σ n0 bf).1 1016) 6 = .ok (.ifCond .eq 35, 3) := zd zm_1016 (by decide +kernel)
theorem d_1016_9 {σ : Nat → Nat} {n0 : Nat} {bf : ab_B} : decode (ab_code (zx σ n0 bf).1 1016) 9 = .ok (.aload_n 0, 1) := zd zm_1016 (by decide +kernel)
theorem d_1016_10 {σ : Nat → Nat} {n0 : Nat} {bf : ab_B} : decode (ab_code (zx σ n0 bf).1 1016) 10 = .ok (.getfield 21, 3) := zd zm_1016 (by decide +kernel)
theorem d_1016_13 {σ : Nat → Nat} {n0 : Nat} {bf : ab_B} : decode (ab_code (zx σ n0 bf).1 1016) 13 = .ok (.iload_n 1, 1) := zd zm_1016 (by decide +kernel)
theorem d_1016_14 {σ : Nat → Nat} {n0 : Nat} {bf : ab_B} : decode (ab_code (zx σ n0 bf).1 1016) 14 = .ok (.iaload, 1) := zd zm_1016 (by decide +kernel)
theorem d_1016_15 {σ : Nat → Nat} {n0 : Nat} {bf : ab_B} : decode (ab_code (zx σ n0 bf).1 1016) 15 = .ok (.aload_n 3, 1) := zd zm_1016 (by decide +kernel)
theorem d_1016_16 {σ : Nat → Nat} {n0 : Nat} {bf : ab_B} : decode (ab_code (zx σ n0 bf).1 1016) 16 = .ok (.invokestatic 381, 3) := zd zm_1016 (by decide +kernel)
theorem d_1016_19 {σ : Nat → Nat} {n0 : Nat} {bf : ab_B} : decode (ab_code (zx σ n0 bf).1 1016) 19 = .ok (.if_icmp .ne 22, 3) := zd zm_1016 (by decide +kernel)
theorem d_1016_22 {σ : Nat → Nat} {n0 : Nat} {bf : ab_B} : decode (ab_code (zx σ n0 bf).1 1016) 22 = .ok (.aload_n 0, 1) := zd zm_1016 (by decide +kernel)
theorem d_1016_23 {σ : Nat → Nat} {n0 : Nat} {bf : ab_B} : decode (ab_code (zx σ n0 bf).1 1016) 23 = .ok (.aload_n 3, 1) := zd zm_1016 (by decide +kernel)
theorem d_1016_24 {σ : Nat → Nat} {n0 : Nat} {bf : ab_B} : decode (ab_code (zx σ n0 bf).1 1016) 24 = .ok (.iload_n 2, 1) := zd zm_1016 (by decide +kernel)
theorem d_1016_25 {σ : Nat → Nat} {n0 : Nat} {bf : ab_B} : decode (ab_code (zx σ n0 bf).1 1016) 25 = .ok (.aload_n 0, 1) := zd zm_1016 (by decide +kernel)
theorem d_1016_26 {σ : Nat → Nat} {n0 : Nat} {bf : ab_B} : decode (ab_code (zx σ n0 bf).1 1016) 26 = .ok (.getfield 10, 3) := zd zm_1016 (by decide +kernel)
theorem d_1016_29 {σ : Nat → Nat} {n0 : Nat} {bf : ab_B} : decode (ab_code (zx σ n0 bf).1 1016) 29 = .ok (.iload_n 1, 1) := zd zm_1016 (by decide +kernel)
theorem d_1016_30 {σ : Nat → Nat} {n0 : Nat} {bf : ab_B} : decode (ab_code (zx σ n0 bf).1 1016) 30 = .ok (.laload, 1) := zd zm_1016 (by decide +kernel)
theorem d_1016_31 {σ : Nat → Nat} {n0 : Nat} {bf : ab_B} : decode (ab_code (zx σ n0 bf).1 1016) 31 = .ok (.invokevirtual 377, 3) := zd zm_1016 (by decide +kernel)
theorem d_1016_34 {σ : Nat → Nat} {n0 : Nat} {bf : ab_B} : decode (ab_code (zx σ n0 bf).1 1016) 34 = .ok (.ifCond .eq 7, 3) := zd zm_1016 (by decide +kernel)
theorem d_1016_37 {σ : Nat → Nat} {n0 : Nat} {bf : ab_B} : decode (ab_code (zx σ n0 bf).1 1016) 37 = .ok (.iconst 1, 1) := zd zm_1016 (by decide +kernel)
theorem d_1016_38 {σ : Nat → Nat} {n0 : Nat} {bf : ab_B} : decode (ab_code (zx σ n0 bf).1 1016) 38 = .ok (.goto 4, 3) := zd zm_1016 (by decide +kernel)
theorem d_1016_41 {σ : Nat → Nat} {n0 : Nat} {bf : ab_B} : decode (ab_code (zx σ n0 bf).1 1016) 41 = .ok (.iconst 0, 1) := zd zm_1016 (by decide +kernel)
theorem d_1016_42 {σ : Nat → Nat} {n0 : Nat} {bf : ab_B} : decode (ab_code (zx σ n0 bf).1 1016) 42 = .ok (.ireturn, 1) := zd zm_1016 (by decide +kernel)
def w_X2_tells_37 (X : zs_X) (d : Nat)  (S : zs_T) (Q : zs_Q) : Prop :=
  (Q (.returned (some (.int (1 : Int32)))) S)
theorem u_X2_tells_37 {σ : Nat → Nat} {n0 : Nat} {bf : ab_B} {d : Nat}  {S : zs_T} {Q : zs_Q} (hB : zt_B bf) (h : w_X2_tells_37 (zx σ n0 bf) d  S Q) : zs_U (zx σ n0 bf) d 1016 37 [] [] S Q := by
  unfold w_X2_tells_37 at h
  refine zu_iconst d_1016_37 zi_1 ?_
  refine zu_goto (t := 42) d_1016_38 rfl ?_
  exact zu_iret d_1016_42 zr_1016 (zs_b_n (Or.inr rfl)) h
def w_X2_tells_41 (X : zs_X) (d : Nat)  (S : zs_T) (Q : zs_Q) : Prop :=
  (Q (.returned (some (.int (0 : Int32)))) S)
theorem u_X2_tells_41 {σ : Nat → Nat} {n0 : Nat} {bf : ab_B} {d : Nat}  {S : zs_T} {Q : zs_Q} (hB : zt_B bf) (h : w_X2_tells_41 (zx σ n0 bf) d  S Q) : zs_U (zx σ n0 bf) d 1016 41 [] [] S Q := by
  unfold w_X2_tells_41 at h
  refine zu_iconst d_1016_41 zi_0 ?_
  exact zu_iret d_1016_42 zr_1016 (zs_b_n (Or.inl rfl)) h
def w_X2_tells (X : zs_X) (d : Nat) (p0 : Nat) (p1 : Int32) (p2 : Int32) (p3 : Option Nat) (S : zs_T) (Q : zs_Q) : Prop :=
  (zs_K S p0 = some (.inl 1) ∧ ∃ b2, (zs_R S 1002 p0) = some b2 ∧ zs_A S b2 2 p1 ∧ (((zs_i S b2 p1.toNatClampNeg) = 0 → w_X2_tells_41 X d  S Q) ∧ (¬ ((zs_i S b2 p1.toNatClampNeg) = 0) → (∃ b6, (zs_R S 1003 p0) = some b6 ∧ zs_A S b6 0 p1 ∧ zs_C X d 1017 [va_rf p3] S (zs_kI (fun v10 S9 => (((¬ (zs_i S b6 p1.toNatClampNeg) = v10 → w_X2_tells_41 X d  S9 Q) ∧ (¬ (¬ (zs_i S b6 p1.toNatClampNeg) = v10) → (zs_K S9 p0 = some (.inl 1) ∧ ∃ b13, (zs_R S9 1001 p0) = some b13 ∧ zs_A S9 b13 3 p1 ∧ zs_C X d 1018 [.ref p0, va_rf p3, .int p2, .long (zs_j S9 b13 p1.toNatClampNeg)] S9 (zs_kI (fun v17 S16 => (((v17 = 0 → w_X2_tells_41 X d  S16 Q) ∧ (¬ (v17 = 0) → w_X2_tells_37 X d  S16 Q)))) Q)))))) Q)))))
theorem u_X2_tells {σ : Nat → Nat} {n0 : Nat} {bf : ab_B} {d : Nat} {p0 : Nat} {p1 : Int32} {p2 : Int32} {p3 : Option Nat} {S : zs_T} {Q : zs_Q} (hB : zt_B bf) (hd : 1 ≤ d) (h : w_X2_tells (zx σ n0 bf) (d - 1) p0 p1 p2 p3 S Q) : zs_C (zx σ n0 bf) d 1016 [.ref p0, .int p1, .int p2, va_rf p3] S Q := by
  have hL : lv_args 0 [.ref p0, .int p1, .int p2, va_rf p3] = [(0, .ref p0), (1, .int p1), (2, .int p2), (3, va_rf p3)] := by simp [lv_args, zs_cat, zs_cI, zs_cJ, zs_cA]
  refine zs_C.of1 (hB.2 1016 (by decide) (by decide)) hd (by rw [hL]; exact zs_sub_self _ (by exact ⟨rfl, rfl, rfl, rfl, trivial⟩)) ?_
  rw [hL]
  clear hL
  unfold w_X2_tells at h
  refine zu_aload_n d_1016_0 rfl (zs_ra _) ?_
  obtain ⟨k1, h⟩ := h
  refine zg_1_17 rfl d_1016_1 k1 ?_
  refine zu_iload_n d_1016_4 rfl ?_
  obtain ⟨b2, e3, h⟩ := h
  refine zs_stk1 (zs_rfe e3) ?_
  obtain ⟨k4, h⟩ := h
  refine zu_bald (k := 2) d_1016_5 rfl (Or.inr rfl) k4 ?_
  refine zu_ifeq (t := 41) d_1016_6 rfl (fun c5 => ?_) (fun c5 => ?_)
  · have h := h.1 c5
    exact (u_X2_tells_41 hB h).weak trivial
  · have h := h.2 c5
    refine zu_aload_n d_1016_9 rfl (zs_ra _) ?_
    refine zg_1_21 rfl d_1016_10 k1 ?_
    refine zu_iload_n d_1016_13 rfl ?_
    obtain ⟨b6, e7, h⟩ := h
    refine zs_stk1 (zs_rfe e7) ?_
    obtain ⟨k8, h⟩ := h
    refine zu_iald (k := 0) d_1016_14 rfl rfl k8 ?_
    refine zu_aload_n d_1016_15 rfl (zs_rr _) ?_
    refine zc_1_381 (x0 := p3) hB rfl d_1016_16 (Nat.le_of_ble_eq_true rfl) h (fun v10 S9 h => ?_)
    refine zu_cmpne (t := 41) d_1016_19 rfl (fun c11 => ?_) (fun c11 => ?_)
    · have h := h.1 c11
      exact (u_X2_tells_41 hB h).weak trivial
    · have h := h.2 c11
      refine zu_aload_n d_1016_22 rfl (zs_ra _) ?_
      refine zu_aload_n d_1016_23 rfl (zs_rr _) ?_
      refine zu_iload_n d_1016_24 rfl ?_
      refine zu_aload_n d_1016_25 rfl (zs_ra _) ?_
      obtain ⟨k12, h⟩ := h
      refine zg_1_10 rfl d_1016_26 k12 ?_
      refine zu_iload_n d_1016_29 rfl ?_
      obtain ⟨b13, e14, h⟩ := h
      refine zs_stk1 (zs_rfe e14) ?_
      obtain ⟨k15, h⟩ := h
      refine zu_lald (k := 3) d_1016_30 rfl rfl k15 ?_
      refine zc_1_377 (x0 := p3) (x1 := p2) (x2 := (zs_j S9 b13 p1.toNatClampNeg)) hB rfl k12 d_1016_31 (Nat.le_of_ble_eq_true rfl) h (fun v17 S16 h => ?_)
      refine zu_ifeq (t := 41) d_1016_34 rfl (fun c18 => ?_) (fun c18 => ?_)
      · have h := h.1 c18
        exact (u_X2_tells_41 hB h).weak trivial
      · have h := h.2 c18
        exact (u_X2_tells_37 hB h).weak trivial
/-! SchemaPascal$Machine.sortOf(LSchemaPascal$Type;)I -/
theorem zm_1017 {σ : Nat → Nat} {n0 : Nat} {bf : ab_B} : ab_code (zx σ n0 bf).1 1017 = prog_5_method_22_code := rfl
theorem zq_1017 {σ : Nat → Nat} {n0 : Nat} {bf : ab_B} : ab_maxL (zx σ n0 bf).1 1017 = 1 := rfl
theorem zr_1017 {σ : Nat → Nat} {n0 : Nat} {bf : ab_B} : ab_ret (zx σ n0 bf).1 1017 = (Option.some Jvm.ClassFile.FieldType.int) := rfl
theorem d_1017_0 {σ : Nat → Nat} {n0 : Nat} {bf : ab_B} : decode (ab_code (zx σ n0 bf).1 1017) 0 = .ok (.aload_n 0, 1) := zd zm_1017 (by decide +kernel)
theorem d_1017_1 {σ : Nat → Nat} {n0 : Nat} {bf : ab_B} : decode (ab_code (zx σ n0 bf).1 1017) 1 = .ok (.getfield 374, 3) := zd zm_1017 (by decide +kernel)
theorem d_1017_4 {σ : Nat → Nat} {n0 : Nat} {bf : ab_B} : decode (ab_code (zx σ n0 bf).1 1017) 4 = .ok (.iconst 5, 1) := zd zm_1017 (by decide +kernel)
theorem d_1017_5 {σ : Nat → Nat} {n0 : Nat} {bf : ab_B} : decode (ab_code (zx σ n0 bf).1 1017) 5 = .ok (.if_icmp .ne 20, 3) := zd zm_1017 (by decide +kernel)
theorem d_1017_8 {σ : Nat → Nat} {n0 : Nat} {bf : ab_B} : decode (ab_code (zx σ n0 bf).1 1017) 8 = .ok (.ldc_w 388, 3) := zd zm_1017 (by decide +kernel)
theorem d_1017_11 {σ : Nat → Nat} {n0 : Nat} {bf : ab_B} : decode (ab_code (zx σ n0 bf).1 1017) 11 = .ok (.aload_n 0, 1) := zd zm_1017 (by decide +kernel)
theorem d_1017_12 {σ : Nat → Nat} {n0 : Nat} {bf : ab_B} : decode (ab_code (zx σ n0 bf).1 1017) 12 = .ok (.getfield 310, 3) := zd zm_1017 (by decide +kernel)
theorem d_1017_15 {σ : Nat → Nat} {n0 : Nat} {bf : ab_B} : decode (ab_code (zx σ n0 bf).1 1017) 15 = .ok (.invokevirtual 389, 3) := zd zm_1017 (by decide +kernel)
theorem d_1017_18 {σ : Nat → Nat} {n0 : Nat} {bf : ab_B} : decode (ab_code (zx σ n0 bf).1 1017) 18 = .ok (.getfield 392, 3) := zd zm_1017 (by decide +kernel)
theorem d_1017_21 {σ : Nat → Nat} {n0 : Nat} {bf : ab_B} : decode (ab_code (zx σ n0 bf).1 1017) 21 = .ok (.iadd, 1) := zd zm_1017 (by decide +kernel)
theorem d_1017_22 {σ : Nat → Nat} {n0 : Nat} {bf : ab_B} : decode (ab_code (zx σ n0 bf).1 1017) 22 = .ok (.goto 30, 3) := zd zm_1017 (by decide +kernel)
theorem d_1017_25 {σ : Nat → Nat} {n0 : Nat} {bf : ab_B} : decode (ab_code (zx σ n0 bf).1 1017) 25 = .ok (.aload_n 0, 1) := zd zm_1017 (by decide +kernel)
theorem d_1017_26 {σ : Nat → Nat} {n0 : Nat} {bf : ab_B} : decode (ab_code (zx σ n0 bf).1 1017) 26 = .ok (.getfield 374, 3) := zd zm_1017 (by decide +kernel)
theorem d_1017_29 {σ : Nat → Nat} {n0 : Nat} {bf : ab_B} : decode (ab_code (zx σ n0 bf).1 1017) 29 = .ok (.bipush 9, 2) := zd zm_1017 (by decide +kernel)
theorem d_1017_31 {σ : Nat → Nat} {n0 : Nat} {bf : ab_B} : decode (ab_code (zx σ n0 bf).1 1017) 31 = .ok (.if_icmp .ne 14, 3) := zd zm_1017 (by decide +kernel)
theorem d_1017_34 {σ : Nat → Nat} {n0 : Nat} {bf : ab_B} : decode (ab_code (zx σ n0 bf).1 1017) 34 = .ok (.ldc_w 395, 3) := zd zm_1017 (by decide +kernel)
theorem d_1017_37 {σ : Nat → Nat} {n0 : Nat} {bf : ab_B} : decode (ab_code (zx σ n0 bf).1 1017) 37 = .ok (.aload_n 0, 1) := zd zm_1017 (by decide +kernel)
theorem d_1017_38 {σ : Nat → Nat} {n0 : Nat} {bf : ab_B} : decode (ab_code (zx σ n0 bf).1 1017) 38 = .ok (.getfield 392, 3) := zd zm_1017 (by decide +kernel)
theorem d_1017_41 {σ : Nat → Nat} {n0 : Nat} {bf : ab_B} : decode (ab_code (zx σ n0 bf).1 1017) 41 = .ok (.iadd, 1) := zd zm_1017 (by decide +kernel)
theorem d_1017_42 {σ : Nat → Nat} {n0 : Nat} {bf : ab_B} : decode (ab_code (zx σ n0 bf).1 1017) 42 = .ok (.goto 10, 3) := zd zm_1017 (by decide +kernel)
theorem d_1017_45 {σ : Nat → Nat} {n0 : Nat} {bf : ab_B} : decode (ab_code (zx σ n0 bf).1 1017) 45 = .ok (.aload_n 0, 1) := zd zm_1017 (by decide +kernel)
theorem d_1017_46 {σ : Nat → Nat} {n0 : Nat} {bf : ab_B} : decode (ab_code (zx σ n0 bf).1 1017) 46 = .ok (.invokevirtual 389, 3) := zd zm_1017 (by decide +kernel)
theorem d_1017_49 {σ : Nat → Nat} {n0 : Nat} {bf : ab_B} : decode (ab_code (zx σ n0 bf).1 1017) 49 = .ok (.getfield 392, 3) := zd zm_1017 (by decide +kernel)
theorem d_1017_52 {σ : Nat → Nat} {n0 : Nat} {bf : ab_B} : decode (ab_code (zx σ n0 bf).1 1017) 52 = .ok (.ireturn, 1) := zd zm_1017 (by decide +kernel)
def w_X2_sortOf (X : zs_X) (d : Nat) (p0 : Option Nat) (S : zs_T) (Q : zs_Q) : Prop :=
  (∃ b1, p0 = some b1 ∧ zs_K S b1 = some (.inl 6) ∧ ((¬ (zs_I S 6000 b1) = (5 : Int32) → (((¬ (zs_I S 6000 b1) = (9 : Int32) → (zs_C X d 6001 [.ref b1] S (zs_kR (fun v7 S6 => (∃ b8, v7 = some b8 ∧ zs_K S6 b8 = some (.inl 6) ∧ Q (.returned (some (.int (zs_I S6 6001 b8)))) S6)) Q))) ∧ (¬ (¬ (zs_I S 6000 b1) = (9 : Int32)) → (Q (.returned (some (.int ((2000000 : Int32) + (zs_I S 6001 b1))))) S))))) ∧ (¬ (¬ (zs_I S 6000 b1) = (5 : Int32)) → (∃ b11, (zs_R S 6002 b1) = some b11 ∧ zs_K S b11 = some (.inl 6) ∧ zs_C X d 6001 [.ref b11] S (zs_kR (fun v15 S14 => (∃ b16, v15 = some b16 ∧ zs_K S14 b16 = some (.inl 6) ∧ Q (.returned (some (.int ((1000000 : Int32) + (zs_I S14 6001 b16))))) S14)) Q)))))
theorem u_X2_sortOf {σ : Nat → Nat} {n0 : Nat} {bf : ab_B} {d : Nat} {p0 : Option Nat} {S : zs_T} {Q : zs_Q} (hB : zt_B bf) (hd : 1 ≤ d) (h : w_X2_sortOf (zx σ n0 bf) (d - 1) p0 S Q) : zs_C (zx σ n0 bf) d 1017 [va_rf p0] S Q := by
  have hL : lv_args 0 [va_rf p0] = [(0, va_rf p0)] := by simp [lv_args, zs_cat, zs_cI, zs_cJ, zs_cA]
  refine zs_C.of1 (hB.2 1017 (by decide) (by decide)) hd (by rw [hL]; exact zs_sub_self _ (by exact ⟨rfl, trivial⟩)) ?_
  rw [hL]
  clear hL
  unfold w_X2_sortOf at h
  refine zu_aload_n d_1017_0 rfl (zs_rr _) ?_
  obtain ⟨b1, e2, h⟩ := h
  refine zs_stk0 (zs_rfe e2) ?_
  obtain ⟨k3, h⟩ := h
  refine zg_1_374 rfl d_1017_1 k3 ?_
  refine zu_iconst d_1017_4 zi_5 ?_
  refine zu_cmpne (t := 25) d_1017_5 rfl (fun c4 => ?_) (fun c4 => ?_)
  · have h := h.1 c4
    refine zu_aload_n d_1017_25 rfl (zs_rr _) ?_
    refine zs_stk0 (zs_rfe e2) ?_
    refine zg_1_374 rfl d_1017_26 k3 ?_
    refine zu_bipush d_1017_29 zj_9 ?_
    refine zu_cmpne (t := 45) d_1017_31 rfl (fun c5 => ?_) (fun c5 => ?_)
    · have h := h.1 c5
      refine zu_aload_n d_1017_45 rfl (zs_rr _) ?_
      refine zs_stk0 (zs_rfe e2) ?_
      refine zc_1_389  hB rfl k3 d_1017_46 (Nat.le_of_ble_eq_true rfl) h (fun v7 S6 h => ?_)
      obtain ⟨b8, e9, h⟩ := h
      refine zs_stk0 (zs_rfe e9) ?_
      obtain ⟨k10, h⟩ := h
      refine zg_1_392 rfl d_1017_49 k10 ?_
      exact zu_iret d_1017_52 zr_1017 rfl h
    · have h := h.2 c5
      refine zlw_1_395 rfl d_1017_34 ?_
      refine zu_aload_n d_1017_37 rfl (zs_rr _) ?_
      refine zs_stk0 (zs_rfe e2) ?_
      refine zg_1_392 rfl d_1017_38 k3 ?_
      refine zu_stk d_1017_41 rfl rfl ?_
      refine zu_goto (t := 52) d_1017_42 rfl ?_
      exact zu_iret d_1017_52 zr_1017 rfl h
  · have h := h.2 c4
    refine zlw_1_388 rfl d_1017_8 ?_
    refine zu_aload_n d_1017_11 rfl (zs_rr _) ?_
    refine zs_stk0 (zs_rfe e2) ?_
    refine zg_1_310 rfl d_1017_12 k3 ?_
    obtain ⟨b11, e12, h⟩ := h
    refine zs_stk0 (zs_rfe e12) ?_
    obtain ⟨k13, h⟩ := h
    refine zc_1_389  hB rfl k13 d_1017_15 (Nat.le_of_ble_eq_true rfl) h (fun v15 S14 h => ?_)
    obtain ⟨b16, e17, h⟩ := h
    refine zs_stk0 (zs_rfe e17) ?_
    obtain ⟨k18, h⟩ := h
    refine zg_1_392 rfl d_1017_18 k18 ?_
    refine zu_stk d_1017_21 rfl rfl ?_
    refine zu_goto (t := 52) d_1017_22 rfl ?_
    exact zu_iret d_1017_52 zr_1017 rfl h
/-! SchemaPascal$Machine.holds(LSchemaPascal$Type;IJ)Z -/
theorem zm_1018 {σ : Nat → Nat} {n0 : Nat} {bf : ab_B} : ab_code (zx σ n0 bf).1 1018 = prog_5_method_20_code := rfl
theorem zq_1018 {σ : Nat → Nat} {n0 : Nat} {bf : ab_B} : ab_maxL (zx σ n0 bf).1 1018 = 11 := rfl
theorem zr_1018 {σ : Nat → Nat} {n0 : Nat} {bf : ab_B} : ab_ret (zx σ n0 bf).1 1018 = (Option.some Jvm.ClassFile.FieldType.boolean) := rfl
theorem d_1018_0 {σ : Nat → Nat} {n0 : Nat} {bf : ab_B} : decode (ab_code (zx σ n0 bf).1 1018) 0 = .ok (.aload_n 1, 1) := zd zm_1018 (by decide +kernel)
theorem d_1018_1 {σ : Nat → Nat} {n0 : Nat} {bf : ab_B} : decode (ab_code (zx σ n0 bf).1 1018) 1 = .ok (.getfield 374, 3) := zd zm_1018 (by decide +kernel)
theorem d_1018_4 {σ : Nat → Nat} {n0 : Nat} {bf : ab_B} : decode (ab_code (zx σ n0 bf).1 1018) 4 = .ok (.bipush 9, 2) := zd zm_1018 (by decide +kernel)
theorem d_1018_6 {σ : Nat → Nat} {n0 : Nat} {bf : ab_B} : decode (ab_code (zx σ n0 bf).1 1018) 6 = .ok (.if_icmp .ne 5, 3) := zd zm_1018 (by decide +kernel)
theorem d_1018_9 {σ : Nat → Nat} {n0 : Nat} {bf : ab_B} : decode (ab_code (zx σ n0 bf).1 1018) 9 = .ok (.iconst 1, 1) := zd zm_1018 (by decide +kernel)
theorem d_1018_10 {σ : Nat → Nat} {n0 : Nat} {bf : ab_B} : decode (ab_code (zx σ n0 bf).1 1018) 10 = .ok (.ireturn, 1) := zd zm_1018 (by decide +kernel)
theorem d_1018_11 {σ : Nat → Nat} {n0 : Nat} {bf : ab_B} : decode (ab_code (zx σ n0 bf).1 1018) 11 = .ok (.aload_n 1, 1) := zd zm_1018 (by decide +kernel)
theorem d_1018_12 {σ : Nat → Nat} {n0 : Nat} {bf : ab_B} : decode (ab_code (zx σ n0 bf).1 1018) 12 = .ok (.getfield 374, 3) := zd zm_1018 (by decide +kernel)
theorem d_1018_15 {σ : Nat → Nat} {n0 : Nat} {bf : ab_B} : decode (ab_code (zx σ n0 bf).1 1018) 15 = .ok (.iconst 5, 1) := zd zm_1018 (by decide +kernel)
theorem d_1018_16 {σ : Nat → Nat} {n0 : Nat} {bf : ab_B} : decode (ab_code (zx σ n0 bf).1 1018) 16 = .ok (.if_icmp .eq 37, 3) := zd zm_1018 (by decide +kernel)
theorem d_1018_19 {σ : Nat → Nat} {n0 : Nat} {bf : ab_B} : decode (ab_code (zx σ n0 bf).1 1018) 19 = .ok (.lload_n 3, 1) := zd zm_1018 (by decide +kernel)
theorem d_1018_20 {σ : Nat → Nat} {n0 : Nat} {bf : ab_B} : decode (ab_code (zx σ n0 bf).1 1018) 20 = .ok (.aload_n 0, 1) := zd zm_1018 (by decide +kernel)
theorem d_1018_21 {σ : Nat → Nat} {n0 : Nat} {bf : ab_B} : decode (ab_code (zx σ n0 bf).1 1018) 21 = .ok (.getfield 31, 3) := zd zm_1018 (by decide +kernel)
theorem d_1018_24 {σ : Nat → Nat} {n0 : Nat} {bf : ab_B} : decode (ab_code (zx σ n0 bf).1 1018) 24 = .ok (.aload_n 1, 1) := zd zm_1018 (by decide +kernel)
theorem d_1018_25 {σ : Nat → Nat} {n0 : Nat} {bf : ab_B} : decode (ab_code (zx σ n0 bf).1 1018) 25 = .ok (.iload_n 2, 1) := zd zm_1018 (by decide +kernel)
theorem d_1018_26 {σ : Nat → Nat} {n0 : Nat} {bf : ab_B} : decode (ab_code (zx σ n0 bf).1 1018) 26 = .ok (.invokevirtual 303, 3) := zd zm_1018 (by decide +kernel)
theorem d_1018_29 {σ : Nat → Nat} {n0 : Nat} {bf : ab_B} : decode (ab_code (zx σ n0 bf).1 1018) 29 = .ok (.lcmp, 1) := zd zm_1018 (by decide +kernel)
theorem d_1018_30 {σ : Nat → Nat} {n0 : Nat} {bf : ab_B} : decode (ab_code (zx σ n0 bf).1 1018) 30 = .ok (.ifCond .lt 21, 3) := zd zm_1018 (by decide +kernel)
theorem d_1018_33 {σ : Nat → Nat} {n0 : Nat} {bf : ab_B} : decode (ab_code (zx σ n0 bf).1 1018) 33 = .ok (.lload_n 3, 1) := zd zm_1018 (by decide +kernel)
theorem d_1018_34 {σ : Nat → Nat} {n0 : Nat} {bf : ab_B} : decode (ab_code (zx σ n0 bf).1 1018) 34 = .ok (.aload_n 0, 1) := zd zm_1018 (by decide +kernel)
theorem d_1018_35 {σ : Nat → Nat} {n0 : Nat} {bf : ab_B} : decode (ab_code (zx σ n0 bf).1 1018) 35 = .ok (.getfield 31, 3) := zd zm_1018 (by decide +kernel)
theorem d_1018_38 {σ : Nat → Nat} {n0 : Nat} {bf : ab_B} : decode (ab_code (zx σ n0 bf).1 1018) 38 = .ok (.aload_n 1, 1) := zd zm_1018 (by decide +kernel)
theorem d_1018_39 {σ : Nat → Nat} {n0 : Nat} {bf : ab_B} : decode (ab_code (zx σ n0 bf).1 1018) 39 = .ok (.iload_n 2, 1) := zd zm_1018 (by decide +kernel)
theorem d_1018_40 {σ : Nat → Nat} {n0 : Nat} {bf : ab_B} : decode (ab_code (zx σ n0 bf).1 1018) 40 = .ok (.invokevirtual 307, 3) := zd zm_1018 (by decide +kernel)
theorem d_1018_43 {σ : Nat → Nat} {n0 : Nat} {bf : ab_B} : decode (ab_code (zx σ n0 bf).1 1018) 43 = .ok (.lcmp, 1) := zd zm_1018 (by decide +kernel)
theorem d_1018_44 {σ : Nat → Nat} {n0 : Nat} {bf : ab_B} : decode (ab_code (zx σ n0 bf).1 1018) 44 = .ok (.ifCond .gt 7, 3) := zd zm_1018 (by decide +kernel)
theorem d_1018_47 {σ : Nat → Nat} {n0 : Nat} {bf : ab_B} : decode (ab_code (zx σ n0 bf).1 1018) 47 = .ok (.iconst 1, 1) := zd zm_1018 (by decide +kernel)
theorem d_1018_48 {σ : Nat → Nat} {n0 : Nat} {bf : ab_B} : decode (ab_code (zx σ n0 bf).1 1018) 48 = .ok (.goto 4, 3) := zd zm_1018 (by decide +kernel)
theorem d_1018_51 {σ : Nat → Nat} {n0 : Nat} {bf : ab_B} : decode (ab_code (zx σ n0 bf).1 1018) 51 = .ok (.iconst 0, 1) := zd zm_1018 (by decide +kernel)
theorem d_1018_52 {σ : Nat → Nat} {n0 : Nat} {bf : ab_B} : decode (ab_code (zx σ n0 bf).1 1018) 52 = .ok (.ireturn, 1) := zd zm_1018 (by decide +kernel)
theorem d_1018_53 {σ : Nat → Nat} {n0 : Nat} {bf : ab_B} : decode (ab_code (zx σ n0 bf).1 1018) 53 = .ok (.aload_n 0, 1) := zd zm_1018 (by decide +kernel)
theorem d_1018_54 {σ : Nat → Nat} {n0 : Nat} {bf : ab_B} : decode (ab_code (zx σ n0 bf).1 1018) 54 = .ok (.getfield 31, 3) := zd zm_1018 (by decide +kernel)
theorem d_1018_57 {σ : Nat → Nat} {n0 : Nat} {bf : ab_B} : decode (ab_code (zx σ n0 bf).1 1018) 57 = .ok (.aload_n 1, 1) := zd zm_1018 (by decide +kernel)
theorem d_1018_58 {σ : Nat → Nat} {n0 : Nat} {bf : ab_B} : decode (ab_code (zx σ n0 bf).1 1018) 58 = .ok (.getfield 310, 3) := zd zm_1018 (by decide +kernel)
theorem d_1018_61 {σ : Nat → Nat} {n0 : Nat} {bf : ab_B} : decode (ab_code (zx σ n0 bf).1 1018) 61 = .ok (.iload_n 2, 1) := zd zm_1018 (by decide +kernel)
theorem d_1018_62 {σ : Nat → Nat} {n0 : Nat} {bf : ab_B} : decode (ab_code (zx σ n0 bf).1 1018) 62 = .ok (.invokevirtual 303, 3) := zd zm_1018 (by decide +kernel)
theorem d_1018_65 {σ : Nat → Nat} {n0 : Nat} {bf : ab_B} : decode (ab_code (zx σ n0 bf).1 1018) 65 = .ok (.lstore 5, 2) := zd zm_1018 (by decide +kernel)
theorem d_1018_67 {σ : Nat → Nat} {n0 : Nat} {bf : ab_B} : decode (ab_code (zx σ n0 bf).1 1018) 67 = .ok (.aload_n 0, 1) := zd zm_1018 (by decide +kernel)
theorem d_1018_68 {σ : Nat → Nat} {n0 : Nat} {bf : ab_B} : decode (ab_code (zx σ n0 bf).1 1018) 68 = .ok (.getfield 31, 3) := zd zm_1018 (by decide +kernel)
theorem d_1018_71 {σ : Nat → Nat} {n0 : Nat} {bf : ab_B} : decode (ab_code (zx σ n0 bf).1 1018) 71 = .ok (.aload_n 1, 1) := zd zm_1018 (by decide +kernel)
theorem d_1018_72 {σ : Nat → Nat} {n0 : Nat} {bf : ab_B} : decode (ab_code (zx σ n0 bf).1 1018) 72 = .ok (.getfield 310, 3) := zd zm_1018 (by decide +kernel)
theorem d_1018_75 {σ : Nat → Nat} {n0 : Nat} {bf : ab_B} : decode (ab_code (zx σ n0 bf).1 1018) 75 = .ok (.iload_n 2, 1) := zd zm_1018 (by decide +kernel)
theorem d_1018_76 {σ : Nat → Nat} {n0 : Nat} {bf : ab_B} : decode (ab_code (zx σ n0 bf).1 1018) 76 = .ok (.invokevirtual 307, 3) := zd zm_1018 (by decide +kernel)
theorem d_1018_79 {σ : Nat → Nat} {n0 : Nat} {bf : ab_B} : decode (ab_code (zx σ n0 bf).1 1018) 79 = .ok (.lstore 7, 2) := zd zm_1018 (by decide +kernel)
theorem d_1018_81 {σ : Nat → Nat} {n0 : Nat} {bf : ab_B} : decode (ab_code (zx σ n0 bf).1 1018) 81 = .ok (.iconst 1, 1) := zd zm_1018 (by decide +kernel)
theorem d_1018_82 {σ : Nat → Nat} {n0 : Nat} {bf : ab_B} : decode (ab_code (zx σ n0 bf).1 1018) 82 = .ok (.istore 9, 2) := zd zm_1018 (by decide +kernel)
theorem d_1018_84 {σ : Nat → Nat} {n0 : Nat} {bf : ab_B} : decode (ab_code (zx σ n0 bf).1 1018) 84 = .ok (.iconst 0, 1) := zd zm_1018 (by decide +kernel)
theorem d_1018_85 {σ : Nat → Nat} {n0 : Nat} {bf : ab_B} : decode (ab_code (zx σ n0 bf).1 1018) 85 = .ok (.istore 10, 2) := zd zm_1018 (by decide +kernel)
theorem d_1018_87 {σ : Nat → Nat} {n0 : Nat} {bf : ab_B} : decode (ab_code (zx σ n0 bf).1 1018) 87 = .ok (.iload 10, 2) := zd zm_1018 (by decide +kernel)
theorem d_1018_89 {σ : Nat → Nat} {n0 : Nat} {bf : ab_B} : decode (ab_code (zx σ n0 bf).1 1018) 89 = .ok (.bipush 64, 2) := zd zm_1018 (by decide +kernel)
theorem d_1018_91 {σ : Nat → Nat} {n0 : Nat} {bf : ab_B} : decode (ab_code (zx σ n0 bf).1 1018) 91 = .ok (.if_icmp .ge 48, 3) := zd zm_1018 (by decide +kernel)
theorem d_1018_94 {σ : Nat → Nat} {n0 : Nat} {bf : ab_B} : decode (ab_code (zx σ n0 bf).1 1018) 94 = .ok (.iload 9, 2) := zd zm_1018 (by decide +kernel)
theorem d_1018_96 {σ : Nat → Nat} {n0 : Nat} {bf : ab_B} : decode (ab_code (zx σ n0 bf).1 1018) 96 = .ok (.lload_n 3, 1) := zd zm_1018 (by decide +kernel)
theorem d_1018_97 {σ : Nat → Nat} {n0 : Nat} {bf : ab_B} : decode (ab_code (zx σ n0 bf).1 1018) 97 = .ok (.iload 10, 2) := zd zm_1018 (by decide +kernel)
theorem d_1018_99 {σ : Nat → Nat} {n0 : Nat} {bf : ab_B} : decode (ab_code (zx σ n0 bf).1 1018) 99 = .ok (.lushr, 1) := zd zm_1018 (by decide +kernel)
theorem d_1018_100 {σ : Nat → Nat} {n0 : Nat} {bf : ab_B} : decode (ab_code (zx σ n0 bf).1 1018) 100 = .ok (.lconst 1, 1) := zd zm_1018 (by decide +kernel)
theorem d_1018_101 {σ : Nat → Nat} {n0 : Nat} {bf : ab_B} : decode (ab_code (zx σ n0 bf).1 1018) 101 = .ok (.land, 1) := zd zm_1018 (by decide +kernel)
theorem d_1018_102 {σ : Nat → Nat} {n0 : Nat} {bf : ab_B} : decode (ab_code (zx σ n0 bf).1 1018) 102 = .ok (.lconst 0, 1) := zd zm_1018 (by decide +kernel)
theorem d_1018_103 {σ : Nat → Nat} {n0 : Nat} {bf : ab_B} : decode (ab_code (zx σ n0 bf).1 1018) 103 = .ok (.lcmp, 1) := zd zm_1018 (by decide +kernel)
theorem d_1018_104 {σ : Nat → Nat} {n0 : Nat} {bf : ab_B} : decode (ab_code (zx σ n0 bf).1 1018) 104 = .ok (.ifCond .eq 21, 3) := zd zm_1018 (by decide +kernel)
theorem d_1018_107 {σ : Nat → Nat} {n0 : Nat} {bf : ab_B} : decode (ab_code (zx σ n0 bf).1 1018) 107 = .ok (.iload 10, 2) := zd zm_1018 (by decide +kernel)
theorem d_1018_109 {σ : Nat → Nat} {n0 : Nat} {bf : ab_B} : decode (ab_code (zx σ n0 bf).1 1018) 109 = .ok (.i2l, 1) := zd zm_1018 (by decide +kernel)
theorem d_1018_110 {σ : Nat → Nat} {n0 : Nat} {bf : ab_B} : decode (ab_code (zx σ n0 bf).1 1018) 110 = .ok (.lload 5, 2) := zd zm_1018 (by decide +kernel)
theorem d_1018_112 {σ : Nat → Nat} {n0 : Nat} {bf : ab_B} : decode (ab_code (zx σ n0 bf).1 1018) 112 = .ok (.lcmp, 1) := zd zm_1018 (by decide +kernel)
theorem d_1018_113 {σ : Nat → Nat} {n0 : Nat} {bf : ab_B} : decode (ab_code (zx σ n0 bf).1 1018) 113 = .ok (.ifCond .lt 16, 3) := zd zm_1018 (by decide +kernel)
theorem d_1018_116 {σ : Nat → Nat} {n0 : Nat} {bf : ab_B} : decode (ab_code (zx σ n0 bf).1 1018) 116 = .ok (.iload 10, 2) := zd zm_1018 (by decide +kernel)
theorem d_1018_118 {σ : Nat → Nat} {n0 : Nat} {bf : ab_B} : decode (ab_code (zx σ n0 bf).1 1018) 118 = .ok (.i2l, 1) := zd zm_1018 (by decide +kernel)
theorem d_1018_119 {σ : Nat → Nat} {n0 : Nat} {bf : ab_B} : decode (ab_code (zx σ n0 bf).1 1018) 119 = .ok (.lload 7, 2) := zd zm_1018 (by decide +kernel)
theorem d_1018_121 {σ : Nat → Nat} {n0 : Nat} {bf : ab_B} : decode (ab_code (zx σ n0 bf).1 1018) 121 = .ok (.lcmp, 1) := zd zm_1018 (by decide +kernel)
theorem d_1018_122 {σ : Nat → Nat} {n0 : Nat} {bf : ab_B} : decode (ab_code (zx σ n0 bf).1 1018) 122 = .ok (.ifCond .gt 7, 3) := zd zm_1018 (by decide +kernel)
theorem d_1018_125 {σ : Nat → Nat} {n0 : Nat} {bf : ab_B} : decode (ab_code (zx σ n0 bf).1 1018) 125 = .ok (.iconst 1, 1) := zd zm_1018 (by decide +kernel)
theorem d_1018_126 {σ : Nat → Nat} {n0 : Nat} {bf : ab_B} : decode (ab_code (zx σ n0 bf).1 1018) 126 = .ok (.goto 4, 3) := zd zm_1018 (by decide +kernel)
theorem d_1018_129 {σ : Nat → Nat} {n0 : Nat} {bf : ab_B} : decode (ab_code (zx σ n0 bf).1 1018) 129 = .ok (.iconst 0, 1) := zd zm_1018 (by decide +kernel)
theorem d_1018_130 {σ : Nat → Nat} {n0 : Nat} {bf : ab_B} : decode (ab_code (zx σ n0 bf).1 1018) 130 = .ok (.iand, 1) := zd zm_1018 (by decide +kernel)
theorem d_1018_131 {σ : Nat → Nat} {n0 : Nat} {bf : ab_B} : decode (ab_code (zx σ n0 bf).1 1018) 131 = .ok (.istore 9, 2) := zd zm_1018 (by decide +kernel)
theorem d_1018_133 {σ : Nat → Nat} {n0 : Nat} {bf : ab_B} : decode (ab_code (zx σ n0 bf).1 1018) 133 = .ok (.iinc 10 1, 3) := zd zm_1018 (by decide +kernel)
theorem d_1018_136 {σ : Nat → Nat} {n0 : Nat} {bf : ab_B} : decode (ab_code (zx σ n0 bf).1 1018) 136 = .ok (.goto (-49), 3) := zd zm_1018 (by decide +kernel)
theorem d_1018_139 {σ : Nat → Nat} {n0 : Nat} {bf : ab_B} : decode (ab_code (zx σ n0 bf).1 1018) 139 = .ok (.iload 9, 2) := zd zm_1018 (by decide +kernel)
theorem d_1018_141 {σ : Nat → Nat} {n0 : Nat} {bf : ab_B} : decode (ab_code (zx σ n0 bf).1 1018) 141 = .ok (.ireturn, 1) := zd zm_1018 (by decide +kernel)
def w_X2_holds_51 (X : zs_X) (d : Nat)  (S : zs_T) (Q : zs_Q) : Prop :=
  (Q (.returned (some (.int (0 : Int32)))) S)
theorem u_X2_holds_51 {σ : Nat → Nat} {n0 : Nat} {bf : ab_B} {d : Nat}  {S : zs_T} {Q : zs_Q} (hB : zt_B bf) (h : w_X2_holds_51 (zx σ n0 bf) d  S Q) : zs_U (zx σ n0 bf) d 1018 51 [] [] S Q := by
  unfold w_X2_holds_51 at h
  refine zu_iconst d_1018_51 zi_0 ?_
  exact zu_iret d_1018_52 zr_1018 (zs_b_n (Or.inl rfl)) h
def w_X2_holds_33 (X : zs_X) (d : Nat) (p0 : Nat) (p1 : Option Nat) (p2 : Int32) (p3 : Int64) (S : zs_T) (Q : zs_Q) : Prop :=
  (zs_K S p0 = some (.inl 1) ∧ ∃ b2, (zs_R S 1004 p0) = some b2 ∧ zs_K S b2 = some (.inl 2) ∧ zs_C X d 2004 [.ref b2, va_rf p1, .int p2] S (zs_kJ (fun v6 S5 => (((v6 < p3 → w_X2_holds_51 X d  S5 Q) ∧ (¬ (v6 < p3) → (Q (.returned (some (.int (1 : Int32)))) S5))))) Q))
theorem u_X2_holds_33 {σ : Nat → Nat} {n0 : Nat} {bf : ab_B} {d : Nat} {p0 : Nat} {p1 : Option Nat} {p2 : Int32} {p3 : Int64} {S : zs_T} {Q : zs_Q} (hB : zt_B bf) (h : w_X2_holds_33 (zx σ n0 bf) d p0 p1 p2 p3 S Q) : zs_U (zx σ n0 bf) d 1018 33 [(0, .ref p0), (1, va_rf p1), (2, .int p2), (3, .long p3)] [] S Q := by
  unfold w_X2_holds_33 at h
  refine zu_lload_n d_1018_33 rfl ?_
  refine zu_aload_n d_1018_34 rfl (zs_ra _) ?_
  obtain ⟨k1, h⟩ := h
  refine zg_1_31 rfl d_1018_35 k1 ?_
  refine zu_aload_n d_1018_38 rfl (zs_rr _) ?_
  refine zu_iload_n d_1018_39 rfl ?_
  obtain ⟨b2, e3, h⟩ := h
  refine zs_stk2 (zs_rfe e3) ?_
  obtain ⟨k4, h⟩ := h
  refine zc_1_307 (x0 := p1) (x1 := p2) hB rfl k4 d_1018_40 (Nat.le_of_ble_eq_true rfl) h (fun v6 S5 h => ?_)
  refine zu_lgt (t := 51) d_1018_43 d_1018_44 rfl (fun c7 => ?_) (fun c7 => ?_)
  · have h := h.1 c7
    exact (u_X2_holds_51 hB h).weak trivial
  · have h := h.2 c7
    refine zu_iconst d_1018_47 zi_1 ?_
    refine zu_goto (t := 52) d_1018_48 rfl ?_
    exact zu_iret d_1018_52 zr_1018 (zs_b_n (Or.inr rfl)) h
def w_X2_holds_81 (X : zs_X) (d : Nat) (p3 : Int64) (p5 : Int64) (p7 : Int64) (S : zs_T) (Q : zs_Q) : Prop :=
  (zs_U X d 1018 87 [(3, .long p3), (5, .long p5), (7, .long p7), (9, .int (1 : Int32)), (10, .int (0 : Int32))] [] S Q)
theorem u_X2_holds_81 {σ : Nat → Nat} {n0 : Nat} {bf : ab_B} {d : Nat} {p3 : Int64} {p5 : Int64} {p7 : Int64} {S : zs_T} {Q : zs_Q} (hB : zt_B bf) (h : w_X2_holds_81 (zx σ n0 bf) d p3 p5 p7 S Q) : zs_U (zx σ n0 bf) d 1018 81 [(3, .long p3), (5, .long p5), (7, .long p7)] [] S Q := by
  unfold w_X2_holds_81 at h
  refine zu_iconst d_1018_81 zi_1 ?_
  refine zu_istore d_1018_82 (zs_lt zq_1018 rfl) ?_
  refine zu_iconst d_1018_84 zi_0 ?_
  refine zu_istore d_1018_85 (zs_lt zq_1018 rfl) ?_
  exact h.weak ⟨rfl, rfl, rfl, rfl, rfl, trivial⟩
def w_X2_holds_130 (X : zs_X) (d : Nat) (p3 : Int64) (p5 : Int64) (p7 : Int64) (p10 : Int32) (q0 : Int32) (q1 : Int32) (S : zs_T) (Q : zs_Q) : Prop :=
  (zs_U X d 1018 87 [(3, .long p3), (5, .long p5), (7, .long p7), (9, .int (q0 &&& q1)), (10, .int (p10 + (1 : Int32)))] [] S Q)
theorem u_X2_holds_130 {σ : Nat → Nat} {n0 : Nat} {bf : ab_B} {d : Nat} {p3 : Int64} {p5 : Int64} {p7 : Int64} {p10 : Int32} {q0 : Int32} {q1 : Int32} {S : zs_T} {Q : zs_Q} (hB : zt_B bf) (h : w_X2_holds_130 (zx σ n0 bf) d p3 p5 p7 p10 q0 q1 S Q) : zs_U (zx σ n0 bf) d 1018 130 [(3, .long p3), (5, .long p5), (7, .long p7), (10, .int p10)] [.int q1, .int q0] S Q := by
  unfold w_X2_holds_130 at h
  refine zu_stk d_1018_130 rfl rfl ?_
  refine zu_istore d_1018_131 (zs_lt zq_1018 rfl) ?_
  refine zu_iinc d_1018_133 rfl zi_1 (zs_lt zq_1018 rfl) ?_
  refine zu_goto (t := 87) d_1018_136 rfl ?_
  exact h.weak ⟨rfl, rfl, rfl, rfl, rfl, trivial⟩
def w_X2_holds_125 (X : zs_X) (d : Nat) (p3 : Int64) (p5 : Int64) (p7 : Int64) (p10 : Int32) (q0 : Int32) (S : zs_T) (Q : zs_Q) : Prop :=
  (w_X2_holds_130 X d p3 p5 p7 p10 q0 (1 : Int32) S Q)
theorem u_X2_holds_125 {σ : Nat → Nat} {n0 : Nat} {bf : ab_B} {d : Nat} {p3 : Int64} {p5 : Int64} {p7 : Int64} {p10 : Int32} {q0 : Int32} {S : zs_T} {Q : zs_Q} (hB : zt_B bf) (h : w_X2_holds_125 (zx σ n0 bf) d p3 p5 p7 p10 q0 S Q) : zs_U (zx σ n0 bf) d 1018 125 [(3, .long p3), (5, .long p5), (7, .long p7), (10, .int p10)] [.int q0] S Q := by
  unfold w_X2_holds_125 at h
  refine zu_iconst d_1018_125 zi_1 ?_
  refine zu_goto (t := 130) d_1018_126 rfl ?_
  exact (u_X2_holds_130 hB h).weak ⟨rfl, rfl, rfl, rfl, trivial⟩
def w_X2_holds_129 (X : zs_X) (d : Nat) (p3 : Int64) (p5 : Int64) (p7 : Int64) (p10 : Int32) (q0 : Int32) (S : zs_T) (Q : zs_Q) : Prop :=
  (w_X2_holds_130 X d p3 p5 p7 p10 q0 (0 : Int32) S Q)
theorem u_X2_holds_129 {σ : Nat → Nat} {n0 : Nat} {bf : ab_B} {d : Nat} {p3 : Int64} {p5 : Int64} {p7 : Int64} {p10 : Int32} {q0 : Int32} {S : zs_T} {Q : zs_Q} (hB : zt_B bf) (h : w_X2_holds_129 (zx σ n0 bf) d p3 p5 p7 p10 q0 S Q) : zs_U (zx σ n0 bf) d 1018 129 [(3, .long p3), (5, .long p5), (7, .long p7), (10, .int p10)] [.int q0] S Q := by
  unfold w_X2_holds_129 at h
  refine zu_iconst d_1018_129 zi_0 ?_
  exact (u_X2_holds_130 hB h).weak ⟨rfl, rfl, rfl, rfl, trivial⟩
def w_X2_holds_87 (X : zs_X) (d : Nat) (p3 : Int64) (p5 : Int64) (p7 : Int64) (p9 : Int32) (p10 : Int32) (S : zs_T) (Q : zs_Q) : Prop :=
  ((((64 : Int32) ≤ p10 → (zs_b p9 ∧ Q (.returned (some (.int p9))) S)) ∧ (¬ ((64 : Int32) ≤ p10) → (((((((p3).toUInt64 >>> ((p10).toInt64.toUInt64 &&& Int64.toUInt64 63)).toInt64) &&& (1 : Int64)) = (0 : Int64) → w_X2_holds_125 X d p3 p5 p7 p10 p9 S Q) ∧ (¬ (((((p3).toUInt64 >>> ((p10).toInt64.toUInt64 &&& Int64.toUInt64 63)).toInt64) &&& (1 : Int64)) = (0 : Int64)) → (((((p10).toInt64) < p5 → w_X2_holds_129 X d p3 p5 p7 p10 p9 S Q) ∧ (¬ (((p10).toInt64) < p5) → (((p7 < ((p10).toInt64) → w_X2_holds_129 X d p3 p5 p7 p10 p9 S Q) ∧ (¬ (p7 < ((p10).toInt64)) → w_X2_holds_125 X d p3 p5 p7 p10 p9 S Q))))))))))))
theorem u_X2_holds_87 {σ : Nat → Nat} {n0 : Nat} {bf : ab_B} {d : Nat} {p3 : Int64} {p5 : Int64} {p7 : Int64} {p9 : Int32} {p10 : Int32} {S : zs_T} {Q : zs_Q} (hB : zt_B bf) (h : w_X2_holds_87 (zx σ n0 bf) d p3 p5 p7 p9 p10 S Q) : zs_U (zx σ n0 bf) d 1018 87 [(3, .long p3), (5, .long p5), (7, .long p7), (9, .int p9), (10, .int p10)] [] S Q := by
  unfold w_X2_holds_87 at h
  refine zu_iload d_1018_87 rfl ?_
  refine zu_bipush d_1018_89 zj_64 ?_
  refine zu_cmpge (t := 139) d_1018_91 rfl (fun c1 => ?_) (fun c1 => ?_)
  · have h := h.1 c1
    refine zu_iload d_1018_139 rfl ?_
    obtain ⟨k2, h⟩ := h
    exact zu_iret d_1018_141 zr_1018 (zs_b_n k2) h
  · have h := h.2 c1
    refine zu_iload d_1018_94 rfl ?_
    refine zu_lload_n d_1018_96 rfl ?_
    refine zu_iload d_1018_97 rfl ?_
    refine zu_stk d_1018_99 rfl rfl ?_
    refine zu_lconst (v := 1) d_1018_100 rfl ?_
    refine zu_stk d_1018_101 rfl rfl ?_
    refine zu_lconst (v := 0) d_1018_102 rfl ?_
    refine zu_leq (t := 125) d_1018_103 d_1018_104 rfl (fun c3 => ?_) (fun c3 => ?_)
    · have h := h.1 c3
      exact (u_X2_holds_125 hB h).weak ⟨rfl, rfl, rfl, rfl, trivial⟩
    · have h := h.2 c3
      refine zu_iload d_1018_107 rfl ?_
      refine zu_stk d_1018_109 rfl rfl ?_
      refine zu_lload d_1018_110 rfl ?_
      refine zu_llt (t := 129) d_1018_112 d_1018_113 rfl (fun c4 => ?_) (fun c4 => ?_)
      · have h := h.1 c4
        exact (u_X2_holds_129 hB h).weak ⟨rfl, rfl, rfl, rfl, trivial⟩
      · have h := h.2 c4
        refine zu_iload d_1018_116 rfl ?_
        refine zu_stk d_1018_118 rfl rfl ?_
        refine zu_lload d_1018_119 rfl ?_
        refine zu_lgt (t := 129) d_1018_121 d_1018_122 rfl (fun c5 => ?_) (fun c5 => ?_)
        · have h := h.1 c5
          exact (u_X2_holds_129 hB h).weak ⟨rfl, rfl, rfl, rfl, trivial⟩
        · have h := h.2 c5
          exact (u_X2_holds_125 hB h).weak ⟨rfl, rfl, rfl, rfl, trivial⟩
def w_X2_holds (X : zs_X) (d : Nat) (p0 : Nat) (p1 : Option Nat) (p2 : Int32) (p3 : Int64) (S : zs_T) (Q : zs_Q) : Prop :=
  (∃ b1, p1 = some b1 ∧ zs_K S b1 = some (.inl 6) ∧ ((¬ (zs_I S 6000 b1) = (9 : Int32) → ((((zs_I S 6000 b1) = (5 : Int32) → (zs_K S p0 = some (.inl 1) ∧ ∃ b7, (zs_R S 1004 p0) = some b7 ∧ zs_K S b7 = some (.inl 2) ∧ zs_C X d 2003 [.ref b7, va_rf (zs_R S 6002 b1), .int p2] S (zs_kJ (fun v11 S10 => (zs_K S10 p0 = some (.inl 1) ∧ zs_K S10 b1 = some (.inl 6) ∧ ∃ b14, (zs_R S10 1004 p0) = some b14 ∧ zs_K S10 b14 = some (.inl 2) ∧ zs_C X d 2004 [.ref b14, va_rf (zs_R S10 6002 b1), .int p2] S10 (zs_kJ (fun v18 S17 => (w_X2_holds_81 X d p3 v11 v18 S17 Q)) Q))) Q))) ∧ (¬ ((zs_I S 6000 b1) = (5 : Int32)) → (zs_K S p0 = some (.inl 1) ∧ ∃ b20, (zs_R S 1004 p0) = some b20 ∧ zs_K S b20 = some (.inl 2) ∧ zs_C X d 2003 [.ref b20, va_rf p1, .int p2] S (zs_kJ (fun v24 S23 => (((p3 < v24 → w_X2_holds_51 X d  S23 Q) ∧ (¬ (p3 < v24) → w_X2_holds_33 X d p0 p1 p2 p3 S23 Q)))) Q)))))) ∧ (¬ (¬ (zs_I S 6000 b1) = (9 : Int32)) → (Q (.returned (some (.int (1 : Int32)))) S))))
theorem u_X2_holds {σ : Nat → Nat} {n0 : Nat} {bf : ab_B} {d : Nat} {p0 : Nat} {p1 : Option Nat} {p2 : Int32} {p3 : Int64} {S : zs_T} {Q : zs_Q} (hB : zt_B bf) (hd : 1 ≤ d) (h : w_X2_holds (zx σ n0 bf) (d - 1) p0 p1 p2 p3 S Q) : zs_C (zx σ n0 bf) d 1018 [.ref p0, va_rf p1, .int p2, .long p3] S Q := by
  have hL : lv_args 0 [.ref p0, va_rf p1, .int p2, .long p3] = [(0, .ref p0), (1, va_rf p1), (2, .int p2), (3, .long p3)] := by simp [lv_args, zs_cat, zs_cI, zs_cJ, zs_cA]
  refine zs_C.of1 (hB.2 1018 (by decide) (by decide)) hd (by rw [hL]; exact zs_sub_self _ (by exact ⟨rfl, rfl, rfl, rfl, trivial⟩)) ?_
  rw [hL]
  clear hL
  unfold w_X2_holds at h
  refine zu_aload_n d_1018_0 rfl (zs_rr _) ?_
  obtain ⟨b1, e2, h⟩ := h
  refine zs_stk0 (zs_rfe e2) ?_
  obtain ⟨k3, h⟩ := h
  refine zg_1_374 rfl d_1018_1 k3 ?_
  refine zu_bipush d_1018_4 zj_9 ?_
  refine zu_cmpne (t := 11) d_1018_6 rfl (fun c4 => ?_) (fun c4 => ?_)
  · have h := h.1 c4
    refine zu_aload_n d_1018_11 rfl (zs_rr _) ?_
    refine zs_stk0 (zs_rfe e2) ?_
    refine zg_1_374 rfl d_1018_12 k3 ?_
    refine zu_iconst d_1018_15 zi_5 ?_
    refine zu_cmpeq (t := 53) d_1018_16 rfl (fun c5 => ?_) (fun c5 => ?_)
    · have h := h.1 c5
      refine zu_aload_n d_1018_53 rfl (zs_ra _) ?_
      obtain ⟨k6, h⟩ := h
      refine zg_1_31 rfl d_1018_54 k6 ?_
      refine zu_aload_n d_1018_57 rfl (zs_rr _) ?_
      refine zs_stk0 (zs_rfe e2) ?_
      refine zg_1_310 rfl d_1018_58 k3 ?_
      refine zu_iload_n d_1018_61 rfl ?_
      obtain ⟨b7, e8, h⟩ := h
      refine zs_stk2 (zs_rfe e8) ?_
      obtain ⟨k9, h⟩ := h
      refine zc_1_303 (x0 := (zs_R S 6002 b1)) (x1 := p2) hB rfl k9 d_1018_62 (Nat.le_of_ble_eq_true rfl) h (fun v11 S10 h => ?_)
      refine zu_lstore d_1018_65 (zs_lt zq_1018 rfl) ?_
      refine zu_aload_n d_1018_67 rfl (zs_ra _) ?_
      obtain ⟨k12, h⟩ := h
      refine zg_1_31 rfl d_1018_68 k12 ?_
      refine zu_aload_n d_1018_71 rfl (zs_rr _) ?_
      refine zs_stk0 (zs_rfe e2) ?_
      obtain ⟨k13, h⟩ := h
      refine zg_1_310 rfl d_1018_72 k13 ?_
      refine zu_iload_n d_1018_75 rfl ?_
      obtain ⟨b14, e15, h⟩ := h
      refine zs_stk2 (zs_rfe e15) ?_
      obtain ⟨k16, h⟩ := h
      refine zc_1_307 (x0 := (zs_R S10 6002 b1)) (x1 := p2) hB rfl k16 d_1018_76 (Nat.le_of_ble_eq_true rfl) h (fun v18 S17 h => ?_)
      refine zu_lstore d_1018_79 (zs_lt zq_1018 rfl) ?_
      exact (u_X2_holds_81 hB h).weak ⟨rfl, rfl, rfl, trivial⟩
    · have h := h.2 c5
      refine zu_lload_n d_1018_19 rfl ?_
      refine zu_aload_n d_1018_20 rfl (zs_ra _) ?_
      obtain ⟨k19, h⟩ := h
      refine zg_1_31 rfl d_1018_21 k19 ?_
      refine zu_aload_n d_1018_24 rfl (zs_rr _) ?_
      refine zu_iload_n d_1018_25 rfl ?_
      obtain ⟨b20, e21, h⟩ := h
      refine zs_stk2 (zs_rfe e21) ?_
      obtain ⟨k22, h⟩ := h
      refine zc_1_303 (x0 := p1) (x1 := p2) hB rfl k22 d_1018_26 (Nat.le_of_ble_eq_true rfl) h (fun v24 S23 h => ?_)
      refine zu_llt (t := 51) d_1018_29 d_1018_30 rfl (fun c25 => ?_) (fun c25 => ?_)
      · have h := h.1 c25
        exact (u_X2_holds_51 hB h).weak trivial
      · have h := h.2 c25
        exact (u_X2_holds_33 hB h).weak ⟨rfl, rfl, rfl, rfl, trivial⟩
  · have h := h.2 c4
    refine zu_iconst d_1018_9 zi_1 ?_
    exact zu_iret d_1018_10 zr_1018 (zs_b_n (Or.inr rfl)) h
/-! SchemaPascal$Machine.inner(LSchemaPascal$Type;I)V -/
theorem zm_1019 {σ : Nat → Nat} {n0 : Nat} {bf : ab_B} : ab_code (zx σ n0 bf).1 1019 = prog_5_method_13_code := rfl
theorem zq_1019 {σ : Nat → Nat} {n0 : Nat} {bf : ab_B} : ab_maxL (zx σ n0 bf).1 1019 = 6 := rfl
theorem zr_1019 {σ : Nat → Nat} {n0 : Nat} {bf : ab_B} : ab_ret (zx σ n0 bf).1 1019 = (Option.none : Option Jvm.ClassFile.FieldType) := rfl
theorem d_1019_0 {σ : Nat → Nat} {n0 : Nat} {bf : ab_B} : decode (ab_code (zx σ n0 bf).1 1019) 0 = .ok (.aload_n 0, 1) := zd zm_1019 (by decide +kernel)
theorem d_1019_1 {σ : Nat → Nat} {n0 : Nat} {bf : ab_B} : decode (ab_code (zx σ n0 bf).1 1019) 1 = .ok (.getfield 39, 3) := zd zm_1019 (by decide +kernel)
theorem d_1019_4 {σ : Nat → Nat} {n0 : Nat} {bf : ab_B} : decode (ab_code (zx σ n0 bf).1 1019) 4 = .ok (.aload_n 0, 1) := zd zm_1019 (by decide +kernel)
theorem d_1019_5 {σ : Nat → Nat} {n0 : Nat} {bf : ab_B} : decode (ab_code (zx σ n0 bf).1 1019) 5 = .ok (.getfield 111, 3) := zd zm_1019 (by decide +kernel)
theorem d_1019_8 {σ : Nat → Nat} {n0 : Nat} {bf : ab_B} : decode (ab_code (zx σ n0 bf).1 1019) 8 = .ok (.iconst 1, 1) := zd zm_1019 (by decide +kernel)
theorem d_1019_9 {σ : Nat → Nat} {n0 : Nat} {bf : ab_B} : decode (ab_code (zx σ n0 bf).1 1019) 9 = .ok (.isub, 1) := zd zm_1019 (by decide +kernel)
theorem d_1019_10 {σ : Nat → Nat} {n0 : Nat} {bf : ab_B} : decode (ab_code (zx σ n0 bf).1 1019) 10 = .ok (.iaload, 1) := zd zm_1019 (by decide +kernel)
theorem d_1019_11 {σ : Nat → Nat} {n0 : Nat} {bf : ab_B} : decode (ab_code (zx σ n0 bf).1 1019) 11 = .ok (.istore_n 3, 1) := zd zm_1019 (by decide +kernel)
theorem d_1019_12 {σ : Nat → Nat} {n0 : Nat} {bf : ab_B} : decode (ab_code (zx σ n0 bf).1 1019) 12 = .ok (.aload_n 0, 1) := zd zm_1019 (by decide +kernel)
theorem d_1019_13 {σ : Nat → Nat} {n0 : Nat} {bf : ab_B} : decode (ab_code (zx σ n0 bf).1 1019) 13 = .ok (.getfield 31, 3) := zd zm_1019 (by decide +kernel)
theorem d_1019_16 {σ : Nat → Nat} {n0 : Nat} {bf : ab_B} : decode (ab_code (zx σ n0 bf).1 1019) 16 = .ok (.getfield 295, 3) := zd zm_1019 (by decide +kernel)
theorem d_1019_19 {σ : Nat → Nat} {n0 : Nat} {bf : ab_B} : decode (ab_code (zx σ n0 bf).1 1019) 19 = .ok (.istore 4, 2) := zd zm_1019 (by decide +kernel)
theorem d_1019_21 {σ : Nat → Nat} {n0 : Nat} {bf : ab_B} : decode (ab_code (zx σ n0 bf).1 1019) 21 = .ok (.aload_n 0, 1) := zd zm_1019 (by decide +kernel)
theorem d_1019_22 {σ : Nat → Nat} {n0 : Nat} {bf : ab_B} : decode (ab_code (zx σ n0 bf).1 1019) 22 = .ok (.getfield 31, 3) := zd zm_1019 (by decide +kernel)
theorem d_1019_25 {σ : Nat → Nat} {n0 : Nat} {bf : ab_B} : decode (ab_code (zx σ n0 bf).1 1019) 25 = .ok (.dup, 1) := zd zm_1019 (by decide +kernel)
theorem d_1019_26 {σ : Nat → Nat} {n0 : Nat} {bf : ab_B} : decode (ab_code (zx σ n0 bf).1 1019) 26 = .ok (.getfield 295, 3) := zd zm_1019 (by decide +kernel)
theorem d_1019_29 {σ : Nat → Nat} {n0 : Nat} {bf : ab_B} : decode (ab_code (zx σ n0 bf).1 1019) 29 = .ok (.iconst 4, 1) := zd zm_1019 (by decide +kernel)
theorem d_1019_30 {σ : Nat → Nat} {n0 : Nat} {bf : ab_B} : decode (ab_code (zx σ n0 bf).1 1019) 30 = .ok (.iadd, 1) := zd zm_1019 (by decide +kernel)
theorem d_1019_31 {σ : Nat → Nat} {n0 : Nat} {bf : ab_B} : decode (ab_code (zx σ n0 bf).1 1019) 31 = .ok (.putfield 295, 3) := zd zm_1019 (by decide +kernel)
theorem d_1019_34 {σ : Nat → Nat} {n0 : Nat} {bf : ab_B} : decode (ab_code (zx σ n0 bf).1 1019) 34 = .ok (.aload_n 0, 1) := zd zm_1019 (by decide +kernel)
theorem d_1019_35 {σ : Nat → Nat} {n0 : Nat} {bf : ab_B} : decode (ab_code (zx σ n0 bf).1 1019) 35 = .ok (.getfield 31, 3) := zd zm_1019 (by decide +kernel)
theorem d_1019_38 {σ : Nat → Nat} {n0 : Nat} {bf : ab_B} : decode (ab_code (zx σ n0 bf).1 1019) 38 = .ok (.aload_n 1, 1) := zd zm_1019 (by decide +kernel)
theorem d_1019_39 {σ : Nat → Nat} {n0 : Nat} {bf : ab_B} : decode (ab_code (zx σ n0 bf).1 1019) 39 = .ok (.iload_n 3, 1) := zd zm_1019 (by decide +kernel)
theorem d_1019_40 {σ : Nat → Nat} {n0 : Nat} {bf : ab_B} : decode (ab_code (zx σ n0 bf).1 1019) 40 = .ok (.iload 4, 2) := zd zm_1019 (by decide +kernel)
theorem d_1019_42 {σ : Nat → Nat} {n0 : Nat} {bf : ab_B} : decode (ab_code (zx σ n0 bf).1 1019) 42 = .ok (.invokevirtual 296, 3) := zd zm_1019 (by decide +kernel)
theorem d_1019_45 {σ : Nat → Nat} {n0 : Nat} {bf : ab_B} : decode (ab_code (zx σ n0 bf).1 1019) 45 = .ok (.aload_n 0, 1) := zd zm_1019 (by decide +kernel)
theorem d_1019_46 {σ : Nat → Nat} {n0 : Nat} {bf : ab_B} : decode (ab_code (zx σ n0 bf).1 1019) 46 = .ok (.getfield 31, 3) := zd zm_1019 (by decide +kernel)
theorem d_1019_49 {σ : Nat → Nat} {n0 : Nat} {bf : ab_B} : decode (ab_code (zx σ n0 bf).1 1019) 49 = .ok (.iload 4, 2) := zd zm_1019 (by decide +kernel)
theorem d_1019_51 {σ : Nat → Nat} {n0 : Nat} {bf : ab_B} : decode (ab_code (zx σ n0 bf).1 1019) 51 = .ok (.putfield 295, 3) := zd zm_1019 (by decide +kernel)
theorem d_1019_54 {σ : Nat → Nat} {n0 : Nat} {bf : ab_B} : decode (ab_code (zx σ n0 bf).1 1019) 54 = .ok (.iconst 0, 1) := zd zm_1019 (by decide +kernel)
theorem d_1019_55 {σ : Nat → Nat} {n0 : Nat} {bf : ab_B} : decode (ab_code (zx σ n0 bf).1 1019) 55 = .ok (.istore 5, 2) := zd zm_1019 (by decide +kernel)
theorem d_1019_57 {σ : Nat → Nat} {n0 : Nat} {bf : ab_B} : decode (ab_code (zx σ n0 bf).1 1019) 57 = .ok (.iload 5, 2) := zd zm_1019 (by decide +kernel)
theorem d_1019_59 {σ : Nat → Nat} {n0 : Nat} {bf : ab_B} : decode (ab_code (zx σ n0 bf).1 1019) 59 = .ok (.iconst 4, 1) := zd zm_1019 (by decide +kernel)
theorem d_1019_60 {σ : Nat → Nat} {n0 : Nat} {bf : ab_B} : decode (ab_code (zx σ n0 bf).1 1019) 60 = .ok (.if_icmp .ge 28, 3) := zd zm_1019 (by decide +kernel)
theorem d_1019_63 {σ : Nat → Nat} {n0 : Nat} {bf : ab_B} : decode (ab_code (zx σ n0 bf).1 1019) 63 = .ok (.aload_n 0, 1) := zd zm_1019 (by decide +kernel)
theorem d_1019_64 {σ : Nat → Nat} {n0 : Nat} {bf : ab_B} : decode (ab_code (zx σ n0 bf).1 1019) 64 = .ok (.getfield 10, 3) := zd zm_1019 (by decide +kernel)
theorem d_1019_67 {σ : Nat → Nat} {n0 : Nat} {bf : ab_B} : decode (ab_code (zx σ n0 bf).1 1019) 67 = .ok (.iload_n 2, 1) := zd zm_1019 (by decide +kernel)
theorem d_1019_68 {σ : Nat → Nat} {n0 : Nat} {bf : ab_B} : decode (ab_code (zx σ n0 bf).1 1019) 68 = .ok (.iload 5, 2) := zd zm_1019 (by decide +kernel)
theorem d_1019_70 {σ : Nat → Nat} {n0 : Nat} {bf : ab_B} : decode (ab_code (zx σ n0 bf).1 1019) 70 = .ok (.iadd, 1) := zd zm_1019 (by decide +kernel)
theorem d_1019_71 {σ : Nat → Nat} {n0 : Nat} {bf : ab_B} : decode (ab_code (zx σ n0 bf).1 1019) 71 = .ok (.aload_n 0, 1) := zd zm_1019 (by decide +kernel)
theorem d_1019_72 {σ : Nat → Nat} {n0 : Nat} {bf : ab_B} : decode (ab_code (zx σ n0 bf).1 1019) 72 = .ok (.getfield 10, 3) := zd zm_1019 (by decide +kernel)
theorem d_1019_75 {σ : Nat → Nat} {n0 : Nat} {bf : ab_B} : decode (ab_code (zx σ n0 bf).1 1019) 75 = .ok (.iload 4, 2) := zd zm_1019 (by decide +kernel)
theorem d_1019_77 {σ : Nat → Nat} {n0 : Nat} {bf : ab_B} : decode (ab_code (zx σ n0 bf).1 1019) 77 = .ok (.iload 5, 2) := zd zm_1019 (by decide +kernel)
theorem d_1019_79 {σ : Nat → Nat} {n0 : Nat} {bf : ab_B} : decode (ab_code (zx σ n0 bf).1 1019) 79 = .ok (.iadd, 1) := zd zm_1019 (by decide +kernel)
theorem d_1019_80 {σ : Nat → Nat} {n0 : Nat} {bf : ab_B} : decode (ab_code (zx σ n0 bf).1 1019) 80 = .ok (.laload, 1) := zd zm_1019 (by decide +kernel)
theorem d_1019_81 {σ : Nat → Nat} {n0 : Nat} {bf : ab_B} : decode (ab_code (zx σ n0 bf).1 1019) 81 = .ok (.lastore, 1) := zd zm_1019 (by decide +kernel)
theorem d_1019_82 {σ : Nat → Nat} {n0 : Nat} {bf : ab_B} : decode (ab_code (zx σ n0 bf).1 1019) 82 = .ok (.iinc 5 1, 3) := zd zm_1019 (by decide +kernel)
theorem d_1019_85 {σ : Nat → Nat} {n0 : Nat} {bf : ab_B} : decode (ab_code (zx σ n0 bf).1 1019) 85 = .ok (.goto (-28), 3) := zd zm_1019 (by decide +kernel)
theorem d_1019_88 {σ : Nat → Nat} {n0 : Nat} {bf : ab_B} : decode (ab_code (zx σ n0 bf).1 1019) 88 = .ok (.return_, 1) := zd zm_1019 (by decide +kernel)
def w_X2_inner_34 (X : zs_X) (d : Nat) (p0 : Nat) (p1 : Option Nat) (p2 : Int32) (p3 : Int32) (p4 : Int32) (S : zs_T) (Q : zs_Q) : Prop :=
  (zs_K S p0 = some (.inl 1) ∧ ∃ b2, (zs_R S 1004 p0) = some b2 ∧ zs_K S b2 = some (.inl 2) ∧ zs_C X d 2010 [.ref b2, va_rf p1, .int p3, .int p4] S (zs_kV (fun S5 => (zs_K S5 p0 = some (.inl 1) ∧ ∃ b8, (zs_R S5 1004 p0) = some b8 ∧ zs_K S5 b8 = some (.inl 2) ∧ ab_n0 X.1 ≤ b8 ∧ ∀ S12, S12 = zs_sI S5 2001 b8 p4 → zs_U X d 1019 57 [(0, .ref p0), (2, .int p2), (4, .int p4), (5, .int (0 : Int32))] [] S12 Q)) Q))
theorem u_X2_inner_34 {σ : Nat → Nat} {n0 : Nat} {bf : ab_B} {d : Nat} {p0 : Nat} {p1 : Option Nat} {p2 : Int32} {p3 : Int32} {p4 : Int32} {S : zs_T} {Q : zs_Q} (hB : zt_B bf) (h : w_X2_inner_34 (zx σ n0 bf) d p0 p1 p2 p3 p4 S Q) : zs_U (zx σ n0 bf) d 1019 34 [(0, .ref p0), (1, va_rf p1), (2, .int p2), (3, .int p3), (4, .int p4)] [] S Q := by
  unfold w_X2_inner_34 at h
  refine zu_aload_n d_1019_34 rfl (zs_ra _) ?_
  obtain ⟨k1, h⟩ := h
  refine zg_1_31 rfl d_1019_35 k1 ?_
  refine zu_aload_n d_1019_38 rfl (zs_rr _) ?_
  refine zu_iload_n d_1019_39 rfl ?_
  refine zu_iload d_1019_40 rfl ?_
  obtain ⟨b2, e3, h⟩ := h
  refine zs_stk3 (zs_rfe e3) ?_
  obtain ⟨k4, h⟩ := h
  refine zc_1_296 (x0 := p1) (x1 := p3) (x2 := p4) hB rfl k4 d_1019_42 (Nat.le_of_ble_eq_true rfl) h (fun S5 h => ?_)
  refine zu_aload_n d_1019_45 rfl (zs_ra _) ?_
  obtain ⟨k7, h⟩ := h
  refine zg_1_31 rfl d_1019_46 k7 ?_
  refine zu_iload d_1019_49 rfl ?_
  obtain ⟨b8, e9, h⟩ := h
  refine zs_stk1 (zs_rfe e9) ?_
  obtain ⟨k10, h⟩ := h
  obtain ⟨k11, h⟩ := h
  refine zp_1_295 (v := p4) rfl d_1019_51 k10 k11 ?_
  generalize e13 : zs_sI S5 2001 b8 p4 = S12
  have h := h S12 e13.symm
  have K14 : ∀ b, zs_K S12 b = zs_K S5 b := zs_Kt e13 (zs_KsI _ _ _ _) (fun _ => rfl)
  refine zu_iconst d_1019_54 zi_0 ?_
  refine zu_istore d_1019_55 (zs_lt zq_1019 rfl) ?_
  exact h.weak ⟨rfl, rfl, rfl, rfl, trivial⟩
def w_X2_inner_85 (X : zs_X) (d : Nat) (p0 : Nat) (p2 : Int32) (p4 : Int32) (p5 : Int32) (S : zs_T) (Q : zs_Q) : Prop :=
  (zs_U X d 1019 57 [(0, .ref p0), (2, .int p2), (4, .int p4), (5, .int p5)] [] S Q)
theorem u_X2_inner_85 {σ : Nat → Nat} {n0 : Nat} {bf : ab_B} {d : Nat} {p0 : Nat} {p2 : Int32} {p4 : Int32} {p5 : Int32} {S : zs_T} {Q : zs_Q} (hB : zt_B bf) (h : w_X2_inner_85 (zx σ n0 bf) d p0 p2 p4 p5 S Q) : zs_U (zx σ n0 bf) d 1019 85 [(0, .ref p0), (2, .int p2), (4, .int p4), (5, .int p5)] [] S Q := by
  unfold w_X2_inner_85 at h
  refine zu_goto (t := 57) d_1019_85 rfl ?_
  exact h.weak ⟨rfl, rfl, rfl, rfl, trivial⟩
def w_X2_inner_57 (X : zs_X) (d : Nat) (p0 : Nat) (p2 : Int32) (p4 : Int32) (p5 : Int32) (S : zs_T) (Q : zs_Q) : Prop :=
  ((((4 : Int32) ≤ p5 → (Q (.returned none) S)) ∧ (¬ ((4 : Int32) ≤ p5) → (zs_K S p0 = some (.inl 1) ∧ ∃ b3, (zs_R S 1001 p0) = some b3 ∧ zs_A S b3 3 (p4 + p5) ∧ zs_A S b3 3 (p2 + p5) ∧ ab_n0 X.1 ≤ b3 ∧ ∀ S8, S8 = zs_sj S b3 (p2 + p5).toNatClampNeg (zs_j S b3 (p4 + p5).toNatClampNeg) → w_X2_inner_85 X d p0 p2 p4 (p5 + (1 : Int32)) S8 Q))))
theorem u_X2_inner_57 {σ : Nat → Nat} {n0 : Nat} {bf : ab_B} {d : Nat} {p0 : Nat} {p2 : Int32} {p4 : Int32} {p5 : Int32} {S : zs_T} {Q : zs_Q} (hB : zt_B bf) (h : w_X2_inner_57 (zx σ n0 bf) d p0 p2 p4 p5 S Q) : zs_U (zx σ n0 bf) d 1019 57 [(0, .ref p0), (2, .int p2), (4, .int p4), (5, .int p5)] [] S Q := by
  unfold w_X2_inner_57 at h
  refine zu_iload d_1019_57 rfl ?_
  refine zu_iconst d_1019_59 zi_4 ?_
  refine zu_cmpge (t := 88) d_1019_60 rfl (fun c1 => ?_) (fun c1 => ?_)
  · have h := h.1 c1
    exact zu_vret d_1019_88 zr_1019 h
  · have h := h.2 c1
    refine zu_aload_n d_1019_63 rfl (zs_ra _) ?_
    obtain ⟨k2, h⟩ := h
    refine zg_1_10 rfl d_1019_64 k2 ?_
    refine zu_iload_n d_1019_67 rfl ?_
    refine zu_iload d_1019_68 rfl ?_
    refine zu_stk d_1019_70 rfl rfl ?_
    refine zu_aload_n d_1019_71 rfl (zs_ra _) ?_
    refine zg_1_10 rfl d_1019_72 k2 ?_
    refine zu_iload d_1019_75 rfl ?_
    refine zu_iload d_1019_77 rfl ?_
    refine zu_stk d_1019_79 rfl rfl ?_
    obtain ⟨b3, e4, h⟩ := h
    refine zs_stk1 (zs_rfe e4) ?_
    obtain ⟨k5, h⟩ := h
    refine zu_lald (k := 3) d_1019_80 rfl rfl k5 ?_
    refine zs_stk2 (zs_rfe e4) ?_
    obtain ⟨k6, h⟩ := h
    obtain ⟨k7, h⟩ := h
    refine zu_last (k := 3) d_1019_81 rfl rfl k7 k6 ?_
    generalize e9 : zs_sj S b3 (p2 + p5).toNatClampNeg (zs_j S b3 (p4 + p5).toNatClampNeg) = S8
    have h := h S8 e9.symm
    have K10 : ∀ b, zs_K S8 b = zs_K S b := zs_Kt e9 (zs_Ksj _ _ _ _) (fun _ => rfl)
    refine zu_iinc d_1019_82 rfl zi_1 (zs_lt zq_1019 rfl) ?_
    exact (u_X2_inner_85 hB h).weak ⟨rfl, rfl, rfl, rfl, trivial⟩
def w_X2_inner (X : zs_X) (d : Nat) (p0 : Nat) (p1 : Option Nat) (p2 : Int32) (S : zs_T) (Q : zs_Q) : Prop :=
  (zs_K S p0 = some (.inl 1) ∧ ∃ b2, (zs_R S 1006 p0) = some b2 ∧ zs_A S b2 0 ((zs_I S 1007 p0) - (1 : Int32)) ∧ ∃ b5, (zs_R S 1004 p0) = some b5 ∧ zs_K S b5 = some (.inl 2) ∧ ab_n0 X.1 ≤ b5 ∧ ∀ S9, S9 = zs_sI S 2001 b5 ((zs_I S 2001 b5) + (4 : Int32)) → w_X2_inner_34 X d p0 p1 p2 (zs_i S b2 ((zs_I S 1007 p0) - (1 : Int32)).toNatClampNeg) (zs_I S 2001 b5) S9 Q)
theorem u_X2_inner {σ : Nat → Nat} {n0 : Nat} {bf : ab_B} {d : Nat} {p0 : Nat} {p1 : Option Nat} {p2 : Int32} {S : zs_T} {Q : zs_Q} (hB : zt_B bf) (hd : 1 ≤ d) (h : w_X2_inner (zx σ n0 bf) (d - 1) p0 p1 p2 S Q) : zs_C (zx σ n0 bf) d 1019 [.ref p0, va_rf p1, .int p2] S Q := by
  have hL : lv_args 0 [.ref p0, va_rf p1, .int p2] = [(0, .ref p0), (1, va_rf p1), (2, .int p2)] := by simp [lv_args, zs_cat, zs_cI, zs_cJ, zs_cA]
  refine zs_C.of1 (hB.2 1019 (by decide) (by decide)) hd (by rw [hL]; exact zs_sub_self _ (by exact ⟨rfl, rfl, rfl, trivial⟩)) ?_
  rw [hL]
  clear hL
  unfold w_X2_inner at h
  refine zu_aload_n d_1019_0 rfl (zs_ra _) ?_
  obtain ⟨k1, h⟩ := h
  refine zg_1_39 rfl d_1019_1 k1 ?_
  refine zu_aload_n d_1019_4 rfl (zs_ra _) ?_
  refine zg_1_111 rfl d_1019_5 k1 ?_
  refine zu_iconst d_1019_8 zi_1 ?_
  refine zu_stk d_1019_9 rfl rfl ?_
  obtain ⟨b2, e3, h⟩ := h
  refine zs_stk1 (zs_rfe e3) ?_
  obtain ⟨k4, h⟩ := h
  refine zu_iald (k := 0) d_1019_10 rfl rfl k4 ?_
  refine zu_istore_n d_1019_11 (zs_lt zq_1019 rfl) ?_
  refine zu_aload_n d_1019_12 rfl (zs_ra _) ?_
  refine zg_1_31 rfl d_1019_13 k1 ?_
  obtain ⟨b5, e6, h⟩ := h
  refine zs_stk0 (zs_rfe e6) ?_
  obtain ⟨k7, h⟩ := h
  refine zg_1_295 rfl d_1019_16 k7 ?_
  refine zu_istore d_1019_19 (zs_lt zq_1019 rfl) ?_
  refine zu_aload_n d_1019_21 rfl (zs_ra _) ?_
  refine zg_1_31 rfl d_1019_22 k1 ?_
  refine zu_dup d_1019_25 (zs_cat _) ?_
  refine zs_stk0 (zs_rfe e6) ?_
  refine zg_1_295 rfl d_1019_26 k7 ?_
  refine zu_iconst d_1019_29 zi_4 ?_
  refine zu_stk d_1019_30 rfl rfl ?_
  refine zs_stk1 (zs_rfe e6) ?_
  obtain ⟨k8, h⟩ := h
  refine zp_1_295 (v := ((zs_I S 2001 b5) + (4 : Int32))) rfl d_1019_31 k7 k8 ?_
  generalize e10 : zs_sI S 2001 b5 ((zs_I S 2001 b5) + (4 : Int32)) = S9
  have h := h S9 e10.symm
  have K11 : ∀ b, zs_K S9 b = zs_K S b := zs_Kt e10 (zs_KsI _ _ _ _) (fun _ => rfl)
  exact (u_X2_inner_34 hB h).weak ⟨rfl, rfl, rfl, rfl, rfl, trivial⟩
/-! SchemaPascal$Machine.go(LSchemaPascal$Type;I)V -/
theorem zm_1020 {σ : Nat → Nat} {n0 : Nat} {bf : ab_B} : ab_code (zx σ n0 bf).1 1020 = prog_5_method_17_code := rfl
theorem zq_1020 {σ : Nat → Nat} {n0 : Nat} {bf : ab_B} : ab_maxL (zx σ n0 bf).1 1020 = 4 := rfl
theorem zr_1020 {σ : Nat → Nat} {n0 : Nat} {bf : ab_B} : ab_ret (zx σ n0 bf).1 1020 = (Option.none : Option Jvm.ClassFile.FieldType) := rfl
theorem d_1020_0 {σ : Nat → Nat} {n0 : Nat} {bf : ab_B} : decode (ab_code (zx σ n0 bf).1 1020) 0 = .ok (.aload_n 0, 1) := zd zm_1020 (by decide +kernel)
theorem d_1020_1 {σ : Nat → Nat} {n0 : Nat} {bf : ab_B} : decode (ab_code (zx σ n0 bf).1 1020) 1 = .ok (.getfield 36, 3) := zd zm_1020 (by decide +kernel)
theorem d_1020_4 {σ : Nat → Nat} {n0 : Nat} {bf : ab_B} : decode (ab_code (zx σ n0 bf).1 1020) 4 = .ok (.aload_n 0, 1) := zd zm_1020 (by decide +kernel)
theorem d_1020_5 {σ : Nat → Nat} {n0 : Nat} {bf : ab_B} : decode (ab_code (zx σ n0 bf).1 1020) 5 = .ok (.getfield 111, 3) := zd zm_1020 (by decide +kernel)
theorem d_1020_8 {σ : Nat → Nat} {n0 : Nat} {bf : ab_B} : decode (ab_code (zx σ n0 bf).1 1020) 8 = .ok (.iconst 1, 1) := zd zm_1020 (by decide +kernel)
theorem d_1020_9 {σ : Nat → Nat} {n0 : Nat} {bf : ab_B} : decode (ab_code (zx σ n0 bf).1 1020) 9 = .ok (.isub, 1) := zd zm_1020 (by decide +kernel)
theorem d_1020_10 {σ : Nat → Nat} {n0 : Nat} {bf : ab_B} : decode (ab_code (zx σ n0 bf).1 1020) 10 = .ok (.laload, 1) := zd zm_1020 (by decide +kernel)
theorem d_1020_11 {σ : Nat → Nat} {n0 : Nat} {bf : ab_B} : decode (ab_code (zx σ n0 bf).1 1020) 11 = .ok (.l2i, 1) := zd zm_1020 (by decide +kernel)
theorem d_1020_12 {σ : Nat → Nat} {n0 : Nat} {bf : ab_B} : decode (ab_code (zx σ n0 bf).1 1020) 12 = .ok (.istore_n 3, 1) := zd zm_1020 (by decide +kernel)
theorem d_1020_13 {σ : Nat → Nat} {n0 : Nat} {bf : ab_B} : decode (ab_code (zx σ n0 bf).1 1020) 13 = .ok (.iload_n 3, 1) := zd zm_1020 (by decide +kernel)
theorem d_1020_14 {σ : Nat → Nat} {n0 : Nat} {bf : ab_B} : decode (ab_code (zx σ n0 bf).1 1020) 14 = .ok (.ifCond .eq 12, 3) := zd zm_1020 (by decide +kernel)
theorem d_1020_17 {σ : Nat → Nat} {n0 : Nat} {bf : ab_B} : decode (ab_code (zx σ n0 bf).1 1020) 17 = .ok (.aload_n 0, 1) := zd zm_1020 (by decide +kernel)
theorem d_1020_18 {σ : Nat → Nat} {n0 : Nat} {bf : ab_B} : decode (ab_code (zx σ n0 bf).1 1020) 18 = .ok (.getfield 88, 3) := zd zm_1020 (by decide +kernel)
theorem d_1020_21 {σ : Nat → Nat} {n0 : Nat} {bf : ab_B} : decode (ab_code (zx σ n0 bf).1 1020) 21 = .ok (.iload_n 3, 1) := zd zm_1020 (by decide +kernel)
theorem d_1020_22 {σ : Nat → Nat} {n0 : Nat} {bf : ab_B} : decode (ab_code (zx σ n0 bf).1 1020) 22 = .ok (.baload, 1) := zd zm_1020 (by decide +kernel)
theorem d_1020_23 {σ : Nat → Nat} {n0 : Nat} {bf : ab_B} : decode (ab_code (zx σ n0 bf).1 1020) 23 = .ok (.ifCond .ne 19, 3) := zd zm_1020 (by decide +kernel)
theorem d_1020_26 {σ : Nat → Nat} {n0 : Nat} {bf : ab_B} : decode (ab_code (zx σ n0 bf).1 1020) 26 = .ok (.aload_n 0, 1) := zd zm_1020 (by decide +kernel)
theorem d_1020_27 {σ : Nat → Nat} {n0 : Nat} {bf : ab_B} : decode (ab_code (zx σ n0 bf).1 1020) 27 = .ok (.iload_n 3, 1) := zd zm_1020 (by decide +kernel)
theorem d_1020_28 {σ : Nat → Nat} {n0 : Nat} {bf : ab_B} : decode (ab_code (zx σ n0 bf).1 1020) 28 = .ok (.ifCond .ne 7, 3) := zd zm_1020 (by decide +kernel)
theorem d_1020_31 {σ : Nat → Nat} {n0 : Nat} {bf : ab_B} : decode (ab_code (zx σ n0 bf).1 1020) 31 = .ok (.iconst 4, 1) := zd zm_1020 (by decide +kernel)
theorem d_1020_32 {σ : Nat → Nat} {n0 : Nat} {bf : ab_B} : decode (ab_code (zx σ n0 bf).1 1020) 32 = .ok (.goto 4, 3) := zd zm_1020 (by decide +kernel)
theorem d_1020_35 {σ : Nat → Nat} {n0 : Nat} {bf : ab_B} : decode (ab_code (zx σ n0 bf).1 1020) 35 = .ok (.iconst 5, 1) := zd zm_1020 (by decide +kernel)
theorem d_1020_36 {σ : Nat → Nat} {n0 : Nat} {bf : ab_B} : decode (ab_code (zx σ n0 bf).1 1020) 36 = .ok (.iload_n 2, 1) := zd zm_1020 (by decide +kernel)
theorem d_1020_37 {σ : Nat → Nat} {n0 : Nat} {bf : ab_B} : decode (ab_code (zx σ n0 bf).1 1020) 37 = .ok (.invokevirtual 194, 3) := zd zm_1020 (by decide +kernel)
theorem d_1020_40 {σ : Nat → Nat} {n0 : Nat} {bf : ab_B} : decode (ab_code (zx σ n0 bf).1 1020) 40 = .ok (.pop, 1) := zd zm_1020 (by decide +kernel)
theorem d_1020_41 {σ : Nat → Nat} {n0 : Nat} {bf : ab_B} : decode (ab_code (zx σ n0 bf).1 1020) 41 = .ok (.return_, 1) := zd zm_1020 (by decide +kernel)
theorem d_1020_42 {σ : Nat → Nat} {n0 : Nat} {bf : ab_B} : decode (ab_code (zx σ n0 bf).1 1020) 42 = .ok (.aload_n 0, 1) := zd zm_1020 (by decide +kernel)
theorem d_1020_43 {σ : Nat → Nat} {n0 : Nat} {bf : ab_B} : decode (ab_code (zx σ n0 bf).1 1020) 43 = .ok (.getfield 36, 3) := zd zm_1020 (by decide +kernel)
theorem d_1020_46 {σ : Nat → Nat} {n0 : Nat} {bf : ab_B} : decode (ab_code (zx σ n0 bf).1 1020) 46 = .ok (.aload_n 0, 1) := zd zm_1020 (by decide +kernel)
theorem d_1020_47 {σ : Nat → Nat} {n0 : Nat} {bf : ab_B} : decode (ab_code (zx σ n0 bf).1 1020) 47 = .ok (.getfield 111, 3) := zd zm_1020 (by decide +kernel)
theorem d_1020_50 {σ : Nat → Nat} {n0 : Nat} {bf : ab_B} : decode (ab_code (zx σ n0 bf).1 1020) 50 = .ok (.iconst 1, 1) := zd zm_1020 (by decide +kernel)
theorem d_1020_51 {σ : Nat → Nat} {n0 : Nat} {bf : ab_B} : decode (ab_code (zx σ n0 bf).1 1020) 51 = .ok (.isub, 1) := zd zm_1020 (by decide +kernel)
theorem d_1020_52 {σ : Nat → Nat} {n0 : Nat} {bf : ab_B} : decode (ab_code (zx σ n0 bf).1 1020) 52 = .ok (.aload_n 0, 1) := zd zm_1020 (by decide +kernel)
theorem d_1020_53 {σ : Nat → Nat} {n0 : Nat} {bf : ab_B} : decode (ab_code (zx σ n0 bf).1 1020) 53 = .ok (.getfield 82, 3) := zd zm_1020 (by decide +kernel)
theorem d_1020_56 {σ : Nat → Nat} {n0 : Nat} {bf : ab_B} : decode (ab_code (zx σ n0 bf).1 1020) 56 = .ok (.iload_n 3, 1) := zd zm_1020 (by decide +kernel)
theorem d_1020_57 {σ : Nat → Nat} {n0 : Nat} {bf : ab_B} : decode (ab_code (zx σ n0 bf).1 1020) 57 = .ok (.iaload, 1) := zd zm_1020 (by decide +kernel)
theorem d_1020_58 {σ : Nat → Nat} {n0 : Nat} {bf : ab_B} : decode (ab_code (zx σ n0 bf).1 1020) 58 = .ok (.i2l, 1) := zd zm_1020 (by decide +kernel)
theorem d_1020_59 {σ : Nat → Nat} {n0 : Nat} {bf : ab_B} : decode (ab_code (zx σ n0 bf).1 1020) 59 = .ok (.lastore, 1) := zd zm_1020 (by decide +kernel)
theorem d_1020_60 {σ : Nat → Nat} {n0 : Nat} {bf : ab_B} : decode (ab_code (zx σ n0 bf).1 1020) 60 = .ok (.aload_n 0, 1) := zd zm_1020 (by decide +kernel)
theorem d_1020_61 {σ : Nat → Nat} {n0 : Nat} {bf : ab_B} : decode (ab_code (zx σ n0 bf).1 1020) 61 = .ok (.getfield 39, 3) := zd zm_1020 (by decide +kernel)
theorem d_1020_64 {σ : Nat → Nat} {n0 : Nat} {bf : ab_B} : decode (ab_code (zx σ n0 bf).1 1020) 64 = .ok (.aload_n 0, 1) := zd zm_1020 (by decide +kernel)
theorem d_1020_65 {σ : Nat → Nat} {n0 : Nat} {bf : ab_B} : decode (ab_code (zx σ n0 bf).1 1020) 65 = .ok (.getfield 111, 3) := zd zm_1020 (by decide +kernel)
theorem d_1020_68 {σ : Nat → Nat} {n0 : Nat} {bf : ab_B} : decode (ab_code (zx σ n0 bf).1 1020) 68 = .ok (.iconst 1, 1) := zd zm_1020 (by decide +kernel)
theorem d_1020_69 {σ : Nat → Nat} {n0 : Nat} {bf : ab_B} : decode (ab_code (zx σ n0 bf).1 1020) 69 = .ok (.isub, 1) := zd zm_1020 (by decide +kernel)
theorem d_1020_70 {σ : Nat → Nat} {n0 : Nat} {bf : ab_B} : decode (ab_code (zx σ n0 bf).1 1020) 70 = .ok (.aload_n 1, 1) := zd zm_1020 (by decide +kernel)
theorem d_1020_71 {σ : Nat → Nat} {n0 : Nat} {bf : ab_B} : decode (ab_code (zx σ n0 bf).1 1020) 71 = .ok (.invokevirtual 354, 3) := zd zm_1020 (by decide +kernel)
theorem d_1020_74 {σ : Nat → Nat} {n0 : Nat} {bf : ab_B} : decode (ab_code (zx σ n0 bf).1 1020) 74 = .ok (.ifCond .eq 23, 3) := zd zm_1020 (by decide +kernel)
theorem d_1020_77 {σ : Nat → Nat} {n0 : Nat} {bf : ab_B} : decode (ab_code (zx σ n0 bf).1 1020) 77 = .ok (.aload_n 0, 1) := zd zm_1020 (by decide +kernel)
theorem d_1020_78 {σ : Nat → Nat} {n0 : Nat} {bf : ab_B} : decode (ab_code (zx σ n0 bf).1 1020) 78 = .ok (.getfield 82, 3) := zd zm_1020 (by decide +kernel)
theorem d_1020_81 {σ : Nat → Nat} {n0 : Nat} {bf : ab_B} : decode (ab_code (zx σ n0 bf).1 1020) 81 = .ok (.iload_n 3, 1) := zd zm_1020 (by decide +kernel)
theorem d_1020_82 {σ : Nat → Nat} {n0 : Nat} {bf : ab_B} : decode (ab_code (zx σ n0 bf).1 1020) 82 = .ok (.iaload, 1) := zd zm_1020 (by decide +kernel)
theorem d_1020_83 {σ : Nat → Nat} {n0 : Nat} {bf : ab_B} : decode (ab_code (zx σ n0 bf).1 1020) 83 = .ok (.aload_n 1, 1) := zd zm_1020 (by decide +kernel)
theorem d_1020_84 {σ : Nat → Nat} {n0 : Nat} {bf : ab_B} : decode (ab_code (zx σ n0 bf).1 1020) 84 = .ok (.invokevirtual 358, 3) := zd zm_1020 (by decide +kernel)
theorem d_1020_87 {σ : Nat → Nat} {n0 : Nat} {bf : ab_B} : decode (ab_code (zx σ n0 bf).1 1020) 87 = .ok (.getfield 362, 3) := zd zm_1020 (by decide +kernel)
theorem d_1020_90 {σ : Nat → Nat} {n0 : Nat} {bf : ab_B} : decode (ab_code (zx σ n0 bf).1 1020) 90 = .ok (.invokevirtual 336, 3) := zd zm_1020 (by decide +kernel)
theorem d_1020_93 {σ : Nat → Nat} {n0 : Nat} {bf : ab_B} : decode (ab_code (zx σ n0 bf).1 1020) 93 = .ok (.isub, 1) := zd zm_1020 (by decide +kernel)
theorem d_1020_94 {σ : Nat → Nat} {n0 : Nat} {bf : ab_B} : decode (ab_code (zx σ n0 bf).1 1020) 94 = .ok (.goto 4, 3) := zd zm_1020 (by decide +kernel)
theorem d_1020_97 {σ : Nat → Nat} {n0 : Nat} {bf : ab_B} : decode (ab_code (zx σ n0 bf).1 1020) 97 = .ok (.iconst (-1), 1) := zd zm_1020 (by decide +kernel)
theorem d_1020_98 {σ : Nat → Nat} {n0 : Nat} {bf : ab_B} : decode (ab_code (zx σ n0 bf).1 1020) 98 = .ok (.iastore, 1) := zd zm_1020 (by decide +kernel)
theorem d_1020_99 {σ : Nat → Nat} {n0 : Nat} {bf : ab_B} : decode (ab_code (zx σ n0 bf).1 1020) 99 = .ok (.return_, 1) := zd zm_1020 (by decide +kernel)
def w_X2_go_36 (X : zs_X) (d : Nat) (p2 : Int32) (q0 : Option Nat) (q1 : Int32) (S : zs_T) (Q : zs_Q) : Prop :=
  (∃ b1, q0 = some b1 ∧ zs_K S b1 = some (.inl 1) ∧ zs_C X d 1004 [.ref b1, .int q1, .int p2] S (zs_kI (fun v5 S4 => (Q (.returned none) S4)) Q))
theorem u_X2_go_36 {σ : Nat → Nat} {n0 : Nat} {bf : ab_B} {d : Nat} {p2 : Int32} {q0 : Option Nat} {q1 : Int32} {S : zs_T} {Q : zs_Q} (hB : zt_B bf) (h : w_X2_go_36 (zx σ n0 bf) d p2 q0 q1 S Q) : zs_U (zx σ n0 bf) d 1020 36 [(2, .int p2)] [.int q1, va_rf q0] S Q := by
  unfold w_X2_go_36 at h
  refine zu_iload_n d_1020_36 rfl ?_
  obtain ⟨b1, e2, h⟩ := h
  refine zs_stk2 (zs_rfe e2) ?_
  obtain ⟨k3, h⟩ := h
  refine zc_1_194 (x0 := q1) (x1 := p2) hB rfl k3 d_1020_37 (Nat.le_of_ble_eq_true rfl) h (fun v5 S4 h => ?_)
  refine zu_pop d_1020_40 rfl ?_
  exact zu_vret d_1020_41 zr_1020 h
def w_X2_go_26 (X : zs_X) (d : Nat) (p0 : Nat) (p2 : Int32) (p3 : Int32) (S : zs_T) (Q : zs_Q) : Prop :=
  (((¬ p3 = 0 → (w_X2_go_36 X d p2 (some p0) (5 : Int32) S Q)) ∧ (¬ (¬ p3 = 0) → (w_X2_go_36 X d p2 (some p0) (4 : Int32) S Q))))
theorem u_X2_go_26 {σ : Nat → Nat} {n0 : Nat} {bf : ab_B} {d : Nat} {p0 : Nat} {p2 : Int32} {p3 : Int32} {S : zs_T} {Q : zs_Q} (hB : zt_B bf) (h : w_X2_go_26 (zx σ n0 bf) d p0 p2 p3 S Q) : zs_U (zx σ n0 bf) d 1020 26 [(0, .ref p0), (2, .int p2), (3, .int p3)] [] S Q := by
  unfold w_X2_go_26 at h
  refine zu_aload_n d_1020_26 rfl (zs_ra _) ?_
  refine zu_iload_n d_1020_27 rfl ?_
  refine zu_ifne (t := 35) d_1020_28 rfl (fun c1 => ?_) (fun c1 => ?_)
  · have h := h.1 c1
    refine zu_iconst d_1020_35 zi_5 ?_
    exact (u_X2_go_36 hB h).weak ⟨rfl, trivial⟩
  · have h := h.2 c1
    refine zu_iconst d_1020_31 zi_4 ?_
    refine zu_goto (t := 36) d_1020_32 rfl ?_
    exact (u_X2_go_36 hB h).weak ⟨rfl, trivial⟩
def w_X2_go_99 (X : zs_X) (d : Nat)  (S : zs_T) (Q : zs_Q) : Prop :=
  (Q (.returned none) S)
theorem u_X2_go_99 {σ : Nat → Nat} {n0 : Nat} {bf : ab_B} {d : Nat}  {S : zs_T} {Q : zs_Q} (hB : zt_B bf) (h : w_X2_go_99 (zx σ n0 bf) d  S Q) : zs_U (zx σ n0 bf) d 1020 99 [] [] S Q := by
  unfold w_X2_go_99 at h
  exact zu_vret d_1020_99 zr_1020 h
def w_X2_go_42 (X : zs_X) (d : Nat) (p0 : Nat) (p1 : Option Nat) (p3 : Int32) (S : zs_T) (Q : zs_Q) : Prop :=
  (zs_K S p0 = some (.inl 1) ∧ ∃ b2, (zs_R S 1026 p0) = some b2 ∧ zs_A S b2 0 p3 ∧ ∃ b5, (zs_R S 1005 p0) = some b5 ∧ zs_A S b5 3 ((zs_I S 1007 p0) - (1 : Int32)) ∧ ab_n0 X.1 ≤ b5 ∧ ∀ S9, S9 = zs_sj S b5 ((zs_I S 1007 p0) - (1 : Int32)).toNatClampNeg (((zs_i S b2 p3.toNatClampNeg)).toInt64) → ∃ b12, p1 = some b12 ∧ zs_K S b12 = some (.inl 6) ∧ zs_C X d 6004 [.ref b12] S9 (zs_kI (fun v16 S15 => (((v16 = 0 → (∃ b18, (zs_R S9 1006 p0) = some b18 ∧ zs_A S15 b18 0 ((zs_I S9 1007 p0) - (1 : Int32)) ∧ ab_n0 X.1 ≤ b18 ∧ ∀ S22, S22 = zs_si S15 b18 ((zs_I S9 1007 p0) - (1 : Int32)).toNatClampNeg (-1 : Int32) → w_X2_go_99 X d  S22 Q)) ∧ (¬ (v16 = 0) → (zs_K S15 p0 = some (.inl 1) ∧ ∃ b26, (zs_R S15 1026 p0) = some b26 ∧ zs_A S15 b26 0 p3 ∧ zs_K S15 b12 = some (.inl 6) ∧ zs_C X d 6005 [.ref b12] S15 (zs_kR (fun v31 S30 => (∃ b32, v31 = some b32 ∧ zs_K S30 b32 = some (.inl 6) ∧ ∃ b35, (zs_R S30 6007 b32) = some b35 ∧ zs_K S30 b35 = some (.inl 16) ∧ zs_C X d 16001 [.ref b35] S30 (zs_kI (fun v39 S38 => (∃ b40, (zs_R S9 1006 p0) = some b40 ∧ zs_A S38 b40 0 ((zs_I S9 1007 p0) - (1 : Int32)) ∧ ab_n0 X.1 ≤ b40 ∧ ∀ S44, S44 = zs_si S38 b40 ((zs_I S9 1007 p0) - (1 : Int32)).toNatClampNeg ((zs_i S15 b26 p3.toNatClampNeg) - v39) → w_X2_go_99 X d  S44 Q)) Q))) Q)))))) Q))
theorem u_X2_go_42 {σ : Nat → Nat} {n0 : Nat} {bf : ab_B} {d : Nat} {p0 : Nat} {p1 : Option Nat} {p3 : Int32} {S : zs_T} {Q : zs_Q} (hB : zt_B bf) (h : w_X2_go_42 (zx σ n0 bf) d p0 p1 p3 S Q) : zs_U (zx σ n0 bf) d 1020 42 [(0, .ref p0), (1, va_rf p1), (3, .int p3)] [] S Q := by
  unfold w_X2_go_42 at h
  refine zu_aload_n d_1020_42 rfl (zs_ra _) ?_
  obtain ⟨k1, h⟩ := h
  refine zg_1_36 rfl d_1020_43 k1 ?_
  refine zu_aload_n d_1020_46 rfl (zs_ra _) ?_
  refine zg_1_111 rfl d_1020_47 k1 ?_
  refine zu_iconst d_1020_50 zi_1 ?_
  refine zu_stk d_1020_51 rfl rfl ?_
  refine zu_aload_n d_1020_52 rfl (zs_ra _) ?_
  refine zg_1_82 rfl d_1020_53 k1 ?_
  refine zu_iload_n d_1020_56 rfl ?_
  obtain ⟨b2, e3, h⟩ := h
  refine zs_stk1 (zs_rfe e3) ?_
  obtain ⟨k4, h⟩ := h
  refine zu_iald (k := 0) d_1020_57 rfl rfl k4 ?_
  refine zu_stk d_1020_58 rfl rfl ?_
  obtain ⟨b5, e6, h⟩ := h
  refine zs_stk2 (zs_rfe e6) ?_
  obtain ⟨k7, h⟩ := h
  obtain ⟨k8, h⟩ := h
  refine zu_last (k := 3) d_1020_59 rfl rfl k8 k7 ?_
  generalize e10 : zs_sj S b5 ((zs_I S 1007 p0) - (1 : Int32)).toNatClampNeg (((zs_i S b2 p3.toNatClampNeg)).toInt64) = S9
  have h := h S9 e10.symm
  have K11 : ∀ b, zs_K S9 b = zs_K S b := zs_Kt e10 (zs_Ksj _ _ _ _) (fun _ => rfl)
  refine zu_aload_n d_1020_60 rfl (zs_ra _) ?_
  refine zg_1_39 rfl d_1020_61 ((K11 _).trans k1) ?_
  refine zu_aload_n d_1020_64 rfl (zs_ra _) ?_
  refine zg_1_111 rfl d_1020_65 ((K11 _).trans k1) ?_
  refine zu_iconst d_1020_68 zi_1 ?_
  refine zu_stk d_1020_69 rfl rfl ?_
  refine zu_aload_n d_1020_70 rfl (zs_rr _) ?_
  obtain ⟨b12, e13, h⟩ := h
  refine zs_stk0 (zs_rfe e13) ?_
  obtain ⟨k14, h⟩ := h
  refine zc_1_354  hB rfl ((K11 _).trans k14) d_1020_71 (by simp only [List.map_cons, List.map_nil, List.sum_cons, List.sum_nil, zs_cat, zs_cI, zs_cJ, zs_cA]; exact Nat.le_of_ble_eq_true rfl) h (fun v16 S15 h => ?_)
  refine zu_ifeq (t := 97) d_1020_74 rfl (fun c17 => ?_) (fun c17 => ?_)
  · have h := h.1 c17
    refine zu_iconst d_1020_97 zi_m1 ?_
    obtain ⟨b18, e19, h⟩ := h
    refine zs_stk2 (zs_rfe e19) ?_
    obtain ⟨k20, h⟩ := h
    obtain ⟨k21, h⟩ := h
    refine zu_iast (k := 0) d_1020_98 rfl rfl k21 k20 ?_
    generalize e23 : zs_si S15 b18 ((zs_I S9 1007 p0) - (1 : Int32)).toNatClampNeg (-1 : Int32) = S22
    have h := h S22 e23.symm
    have K24 : ∀ b, zs_K S22 b = zs_K S15 b := zs_Kt e23 (zs_Ksi _ _ _ _) (fun _ => rfl)
    exact (u_X2_go_99 hB h).weak trivial
  · have h := h.2 c17
    refine zu_aload_n d_1020_77 rfl (zs_ra _) ?_
    obtain ⟨k25, h⟩ := h
    refine zg_1_82 rfl d_1020_78 k25 ?_
    refine zu_iload_n d_1020_81 rfl ?_
    obtain ⟨b26, e27, h⟩ := h
    refine zs_stk1 (zs_rfe e27) ?_
    obtain ⟨k28, h⟩ := h
    refine zu_iald (k := 0) d_1020_82 rfl rfl k28 ?_
    refine zu_aload_n d_1020_83 rfl (zs_rr _) ?_
    refine zs_stk0 (zs_rfe e13) ?_
    obtain ⟨k29, h⟩ := h
    refine zc_1_358  hB rfl k29 d_1020_84 (by simp only [List.map_cons, List.map_nil, List.sum_cons, List.sum_nil, zs_cat, zs_cI, zs_cJ, zs_cA]; exact Nat.le_of_ble_eq_true rfl) h (fun v31 S30 h => ?_)
    obtain ⟨b32, e33, h⟩ := h
    refine zs_stk0 (zs_rfe e33) ?_
    obtain ⟨k34, h⟩ := h
    refine zg_1_362 rfl d_1020_87 k34 ?_
    obtain ⟨b35, e36, h⟩ := h
    refine zs_stk0 (zs_rfe e36) ?_
    obtain ⟨k37, h⟩ := h
    refine zc_1_336  hB rfl k37 d_1020_90 (by simp only [List.map_cons, List.map_nil, List.sum_cons, List.sum_nil, zs_cat, zs_cI, zs_cJ, zs_cA]; exact Nat.le_of_ble_eq_true rfl) h (fun v39 S38 h => ?_)
    refine zu_stk d_1020_93 rfl rfl ?_
    refine zu_goto (t := 98) d_1020_94 rfl ?_
    obtain ⟨b40, e41, h⟩ := h
    refine zs_stk2 (zs_rfe e41) ?_
    obtain ⟨k42, h⟩ := h
    obtain ⟨k43, h⟩ := h
    refine zu_iast (k := 0) d_1020_98 rfl rfl k43 k42 ?_
    generalize e45 : zs_si S38 b40 ((zs_I S9 1007 p0) - (1 : Int32)).toNatClampNeg ((zs_i S15 b26 p3.toNatClampNeg) - v39) = S44
    have h := h S44 e45.symm
    have K46 : ∀ b, zs_K S44 b = zs_K S38 b := zs_Kt e45 (zs_Ksi _ _ _ _) (fun _ => rfl)
    exact (u_X2_go_99 hB h).weak trivial
def w_X2_go (X : zs_X) (d : Nat) (p0 : Nat) (p1 : Option Nat) (p2 : Int32) (S : zs_T) (Q : zs_Q) : Prop :=
  (zs_K S p0 = some (.inl 1) ∧ ∃ b2, (zs_R S 1005 p0) = some b2 ∧ zs_A S b2 3 ((zs_I S 1007 p0) - (1 : Int32)) ∧ (((((zs_j S b2 ((zs_I S 1007 p0) - (1 : Int32)).toNatClampNeg)).toInt32) = 0 → w_X2_go_26 X d p0 p2 (((zs_j S b2 ((zs_I S 1007 p0) - (1 : Int32)).toNatClampNeg)).toInt32) S Q) ∧ (¬ ((((zs_j S b2 ((zs_I S 1007 p0) - (1 : Int32)).toNatClampNeg)).toInt32) = 0) → (∃ b6, (zs_R S 1028 p0) = some b6 ∧ zs_A S b6 2 (((zs_j S b2 ((zs_I S 1007 p0) - (1 : Int32)).toNatClampNeg)).toInt32) ∧ ((¬ (zs_i S b6 (((zs_j S b2 ((zs_I S 1007 p0) - (1 : Int32)).toNatClampNeg)).toInt32).toNatClampNeg) = 0 → w_X2_go_42 X d p0 p1 (((zs_j S b2 ((zs_I S 1007 p0) - (1 : Int32)).toNatClampNeg)).toInt32) S Q) ∧ (¬ (¬ (zs_i S b6 (((zs_j S b2 ((zs_I S 1007 p0) - (1 : Int32)).toNatClampNeg)).toInt32).toNatClampNeg) = 0) → w_X2_go_26 X d p0 p2 (((zs_j S b2 ((zs_I S 1007 p0) - (1 : Int32)).toNatClampNeg)).toInt32) S Q))))))
theorem u_X2_go {σ : Nat → Nat} {n0 : Nat} {bf : ab_B} {d : Nat} {p0 : Nat} {p1 : Option Nat} {p2 : Int32} {S : zs_T} {Q : zs_Q} (hB : zt_B bf) (hd : 1 ≤ d) (h : w_X2_go (zx σ n0 bf) (d - 1) p0 p1 p2 S Q) : zs_C (zx σ n0 bf) d 1020 [.ref p0, va_rf p1, .int p2] S Q := by
  have hL : lv_args 0 [.ref p0, va_rf p1, .int p2] = [(0, .ref p0), (1, va_rf p1), (2, .int p2)] := by simp [lv_args, zs_cat, zs_cI, zs_cJ, zs_cA]
  refine zs_C.of1 (hB.2 1020 (by decide) (by decide)) hd (by rw [hL]; exact zs_sub_self _ (by exact ⟨rfl, rfl, rfl, trivial⟩)) ?_
  rw [hL]
  clear hL
  unfold w_X2_go at h
  refine zu_aload_n d_1020_0 rfl (zs_ra _) ?_
  obtain ⟨k1, h⟩ := h
  refine zg_1_36 rfl d_1020_1 k1 ?_
  refine zu_aload_n d_1020_4 rfl (zs_ra _) ?_
  refine zg_1_111 rfl d_1020_5 k1 ?_
  refine zu_iconst d_1020_8 zi_1 ?_
  refine zu_stk d_1020_9 rfl rfl ?_
  obtain ⟨b2, e3, h⟩ := h
  refine zs_stk1 (zs_rfe e3) ?_
  obtain ⟨k4, h⟩ := h
  refine zu_lald (k := 3) d_1020_10 rfl rfl k4 ?_
  refine zu_stk d_1020_11 rfl rfl ?_
  refine zu_istore_n d_1020_12 (zs_lt zq_1020 rfl) ?_
  refine zu_iload_n d_1020_13 rfl ?_
  refine zu_ifeq (t := 26) d_1020_14 rfl (fun c5 => ?_) (fun c5 => ?_)
  · have h := h.1 c5
    exact (u_X2_go_26 hB h).weak ⟨rfl, rfl, rfl, trivial⟩
  · have h := h.2 c5
    refine zu_aload_n d_1020_17 rfl (zs_ra _) ?_
    refine zg_1_88 rfl d_1020_18 k1 ?_
    refine zu_iload_n d_1020_21 rfl ?_
    obtain ⟨b6, e7, h⟩ := h
    refine zs_stk1 (zs_rfe e7) ?_
    obtain ⟨k8, h⟩ := h
    refine zu_bald (k := 2) d_1020_22 rfl (Or.inr rfl) k8 ?_
    refine zu_ifne (t := 42) d_1020_23 rfl (fun c9 => ?_) (fun c9 => ?_)
    · have h := h.1 c9
      exact (u_X2_go_42 hB h).weak ⟨rfl, rfl, rfl, trivial⟩
    · have h := h.2 c9
      exact (u_X2_go_26 hB h).weak ⟨rfl, rfl, rfl, trivial⟩
/-! SchemaPascal$Machine.loadText(IILSchemaPascal$Type;I)V -/
theorem zm_1021 {σ : Nat → Nat} {n0 : Nat} {bf : ab_B} : ab_code (zx σ n0 bf).1 1021 = prog_5_method_19_code := rfl
theorem zq_1021 {σ : Nat → Nat} {n0 : Nat} {bf : ab_B} : ab_maxL (zx σ n0 bf).1 1021 = 8 := rfl
theorem zr_1021 {σ : Nat → Nat} {n0 : Nat} {bf : ab_B} : ab_ret (zx σ n0 bf).1 1021 = (Option.none : Option Jvm.ClassFile.FieldType) := rfl
theorem d_1021_0 {σ : Nat → Nat} {n0 : Nat} {bf : ab_B} : decode (ab_code (zx σ n0 bf).1 1021) 0 = .ok (.aload_n 0, 1) := zd zm_1021 (by decide +kernel)
theorem d_1021_1 {σ : Nat → Nat} {n0 : Nat} {bf : ab_B} : decode (ab_code (zx σ n0 bf).1 1021) 1 = .ok (.getfield 17, 3) := zd zm_1021 (by decide +kernel)
theorem d_1021_4 {σ : Nat → Nat} {n0 : Nat} {bf : ab_B} : decode (ab_code (zx σ n0 bf).1 1021) 4 = .ok (.iload_n 1, 1) := zd zm_1021 (by decide +kernel)
theorem d_1021_5 {σ : Nat → Nat} {n0 : Nat} {bf : ab_B} : decode (ab_code (zx σ n0 bf).1 1021) 5 = .ok (.baload, 1) := zd zm_1021 (by decide +kernel)
theorem d_1021_6 {σ : Nat → Nat} {n0 : Nat} {bf : ab_B} : decode (ab_code (zx σ n0 bf).1 1021) 6 = .ok (.ifCond .eq 25, 3) := zd zm_1021 (by decide +kernel)
theorem d_1021_9 {σ : Nat → Nat} {n0 : Nat} {bf : ab_B} : decode (ab_code (zx σ n0 bf).1 1021) 9 = .ok (.aload_n 0, 1) := zd zm_1021 (by decide +kernel)
theorem d_1021_10 {σ : Nat → Nat} {n0 : Nat} {bf : ab_B} : decode (ab_code (zx σ n0 bf).1 1021) 10 = .ok (.getfield 21, 3) := zd zm_1021 (by decide +kernel)
theorem d_1021_13 {σ : Nat → Nat} {n0 : Nat} {bf : ab_B} : decode (ab_code (zx σ n0 bf).1 1021) 13 = .ok (.iload_n 1, 1) := zd zm_1021 (by decide +kernel)
theorem d_1021_14 {σ : Nat → Nat} {n0 : Nat} {bf : ab_B} : decode (ab_code (zx σ n0 bf).1 1021) 14 = .ok (.iaload, 1) := zd zm_1021 (by decide +kernel)
theorem d_1021_15 {σ : Nat → Nat} {n0 : Nat} {bf : ab_B} : decode (ab_code (zx σ n0 bf).1 1021) 15 = .ok (.ldc_w 365, 3) := zd zm_1021 (by decide +kernel)
theorem d_1021_18 {σ : Nat → Nat} {n0 : Nat} {bf : ab_B} : decode (ab_code (zx σ n0 bf).1 1021) 18 = .ok (.if_icmp .ne 13, 3) := zd zm_1021 (by decide +kernel)
theorem d_1021_21 {σ : Nat → Nat} {n0 : Nat} {bf : ab_B} : decode (ab_code (zx σ n0 bf).1 1021) 21 = .ok (.aload_n 0, 1) := zd zm_1021 (by decide +kernel)
theorem d_1021_22 {σ : Nat → Nat} {n0 : Nat} {bf : ab_B} : decode (ab_code (zx σ n0 bf).1 1021) 22 = .ok (.getfield 10, 3) := zd zm_1021 (by decide +kernel)
theorem d_1021_25 {σ : Nat → Nat} {n0 : Nat} {bf : ab_B} : decode (ab_code (zx σ n0 bf).1 1021) 25 = .ok (.iload_n 1, 1) := zd zm_1021 (by decide +kernel)
theorem d_1021_26 {σ : Nat → Nat} {n0 : Nat} {bf : ab_B} : decode (ab_code (zx σ n0 bf).1 1021) 26 = .ok (.laload, 1) := zd zm_1021 (by decide +kernel)
theorem d_1021_27 {σ : Nat → Nat} {n0 : Nat} {bf : ab_B} : decode (ab_code (zx σ n0 bf).1 1021) 27 = .ok (.l2i, 1) := zd zm_1021 (by decide +kernel)
theorem d_1021_28 {σ : Nat → Nat} {n0 : Nat} {bf : ab_B} : decode (ab_code (zx σ n0 bf).1 1021) 28 = .ok (.goto 4, 3) := zd zm_1021 (by decide +kernel)
theorem d_1021_31 {σ : Nat → Nat} {n0 : Nat} {bf : ab_B} : decode (ab_code (zx σ n0 bf).1 1021) 31 = .ok (.iconst (-1), 1) := zd zm_1021 (by decide +kernel)
theorem d_1021_32 {σ : Nat → Nat} {n0 : Nat} {bf : ab_B} : decode (ab_code (zx σ n0 bf).1 1021) 32 = .ok (.istore 5, 2) := zd zm_1021 (by decide +kernel)
theorem d_1021_34 {σ : Nat → Nat} {n0 : Nat} {bf : ab_B} : decode (ab_code (zx σ n0 bf).1 1021) 34 = .ok (.iload 5, 2) := zd zm_1021 (by decide +kernel)
theorem d_1021_36 {σ : Nat → Nat} {n0 : Nat} {bf : ab_B} : decode (ab_code (zx σ n0 bf).1 1021) 36 = .ok (.ifCond .lt 26, 3) := zd zm_1021 (by decide +kernel)
theorem d_1021_39 {σ : Nat → Nat} {n0 : Nat} {bf : ab_B} : decode (ab_code (zx σ n0 bf).1 1021) 39 = .ok (.iload 5, 2) := zd zm_1021 (by decide +kernel)
theorem d_1021_41 {σ : Nat → Nat} {n0 : Nat} {bf : ab_B} : decode (ab_code (zx σ n0 bf).1 1021) 41 = .ok (.i2l, 1) := zd zm_1021 (by decide +kernel)
theorem d_1021_42 {σ : Nat → Nat} {n0 : Nat} {bf : ab_B} : decode (ab_code (zx σ n0 bf).1 1021) 42 = .ok (.aload_n 0, 1) := zd zm_1021 (by decide +kernel)
theorem d_1021_43 {σ : Nat → Nat} {n0 : Nat} {bf : ab_B} : decode (ab_code (zx σ n0 bf).1 1021) 43 = .ok (.getfield 31, 3) := zd zm_1021 (by decide +kernel)
theorem d_1021_46 {σ : Nat → Nat} {n0 : Nat} {bf : ab_B} : decode (ab_code (zx σ n0 bf).1 1021) 46 = .ok (.aload_n 3, 1) := zd zm_1021 (by decide +kernel)
theorem d_1021_47 {σ : Nat → Nat} {n0 : Nat} {bf : ab_B} : decode (ab_code (zx σ n0 bf).1 1021) 47 = .ok (.getfield 366, 3) := zd zm_1021 (by decide +kernel)
theorem d_1021_50 {σ : Nat → Nat} {n0 : Nat} {bf : ab_B} : decode (ab_code (zx σ n0 bf).1 1021) 50 = .ok (.iload_n 2, 1) := zd zm_1021 (by decide +kernel)
theorem d_1021_51 {σ : Nat → Nat} {n0 : Nat} {bf : ab_B} : decode (ab_code (zx σ n0 bf).1 1021) 51 = .ok (.invokevirtual 369, 3) := zd zm_1021 (by decide +kernel)
theorem d_1021_54 {σ : Nat → Nat} {n0 : Nat} {bf : ab_B} : decode (ab_code (zx σ n0 bf).1 1021) 54 = .ok (.lcmp, 1) := zd zm_1021 (by decide +kernel)
theorem d_1021_55 {σ : Nat → Nat} {n0 : Nat} {bf : ab_B} : decode (ab_code (zx σ n0 bf).1 1021) 55 = .ok (.ifCond .gt 7, 3) := zd zm_1021 (by decide +kernel)
theorem d_1021_58 {σ : Nat → Nat} {n0 : Nat} {bf : ab_B} : decode (ab_code (zx σ n0 bf).1 1021) 58 = .ok (.iconst 1, 1) := zd zm_1021 (by decide +kernel)
theorem d_1021_59 {σ : Nat → Nat} {n0 : Nat} {bf : ab_B} : decode (ab_code (zx σ n0 bf).1 1021) 59 = .ok (.goto 4, 3) := zd zm_1021 (by decide +kernel)
theorem d_1021_62 {σ : Nat → Nat} {n0 : Nat} {bf : ab_B} : decode (ab_code (zx σ n0 bf).1 1021) 62 = .ok (.iconst 0, 1) := zd zm_1021 (by decide +kernel)
theorem d_1021_63 {σ : Nat → Nat} {n0 : Nat} {bf : ab_B} : decode (ab_code (zx σ n0 bf).1 1021) 63 = .ok (.istore 6, 2) := zd zm_1021 (by decide +kernel)
theorem d_1021_65 {σ : Nat → Nat} {n0 : Nat} {bf : ab_B} : decode (ab_code (zx σ n0 bf).1 1021) 65 = .ok (.iconst 1, 1) := zd zm_1021 (by decide +kernel)
theorem d_1021_66 {σ : Nat → Nat} {n0 : Nat} {bf : ab_B} : decode (ab_code (zx σ n0 bf).1 1021) 66 = .ok (.istore 7, 2) := zd zm_1021 (by decide +kernel)
theorem d_1021_68 {σ : Nat → Nat} {n0 : Nat} {bf : ab_B} : decode (ab_code (zx σ n0 bf).1 1021) 68 = .ok (.iload 7, 2) := zd zm_1021 (by decide +kernel)
theorem d_1021_70 {σ : Nat → Nat} {n0 : Nat} {bf : ab_B} : decode (ab_code (zx σ n0 bf).1 1021) 70 = .ok (.iload 5, 2) := zd zm_1021 (by decide +kernel)
theorem d_1021_72 {σ : Nat → Nat} {n0 : Nat} {bf : ab_B} : decode (ab_code (zx σ n0 bf).1 1021) 72 = .ok (.if_icmp .gt 48, 3) := zd zm_1021 (by decide +kernel)
theorem d_1021_75 {σ : Nat → Nat} {n0 : Nat} {bf : ab_B} : decode (ab_code (zx σ n0 bf).1 1021) 75 = .ok (.iload 6, 2) := zd zm_1021 (by decide +kernel)
theorem d_1021_77 {σ : Nat → Nat} {n0 : Nat} {bf : ab_B} : decode (ab_code (zx σ n0 bf).1 1021) 77 = .ok (.ifCond .eq 43, 3) := zd zm_1021 (by decide +kernel)
theorem d_1021_80 {σ : Nat → Nat} {n0 : Nat} {bf : ab_B} : decode (ab_code (zx σ n0 bf).1 1021) 80 = .ok (.aload_n 0, 1) := zd zm_1021 (by decide +kernel)
theorem d_1021_81 {σ : Nat → Nat} {n0 : Nat} {bf : ab_B} : decode (ab_code (zx σ n0 bf).1 1021) 81 = .ok (.getfield 17, 3) := zd zm_1021 (by decide +kernel)
theorem d_1021_84 {σ : Nat → Nat} {n0 : Nat} {bf : ab_B} : decode (ab_code (zx σ n0 bf).1 1021) 84 = .ok (.iload_n 1, 1) := zd zm_1021 (by decide +kernel)
theorem d_1021_85 {σ : Nat → Nat} {n0 : Nat} {bf : ab_B} : decode (ab_code (zx σ n0 bf).1 1021) 85 = .ok (.iload 7, 2) := zd zm_1021 (by decide +kernel)
theorem d_1021_87 {σ : Nat → Nat} {n0 : Nat} {bf : ab_B} : decode (ab_code (zx σ n0 bf).1 1021) 87 = .ok (.iadd, 1) := zd zm_1021 (by decide +kernel)
theorem d_1021_88 {σ : Nat → Nat} {n0 : Nat} {bf : ab_B} : decode (ab_code (zx σ n0 bf).1 1021) 88 = .ok (.baload, 1) := zd zm_1021 (by decide +kernel)
theorem d_1021_89 {σ : Nat → Nat} {n0 : Nat} {bf : ab_B} : decode (ab_code (zx σ n0 bf).1 1021) 89 = .ok (.ifCond .eq 22, 3) := zd zm_1021 (by decide +kernel)
theorem d_1021_92 {σ : Nat → Nat} {n0 : Nat} {bf : ab_B} : decode (ab_code (zx σ n0 bf).1 1021) 92 = .ok (.aload_n 0, 1) := zd zm_1021 (by decide +kernel)
theorem d_1021_93 {σ : Nat → Nat} {n0 : Nat} {bf : ab_B} : decode (ab_code (zx σ n0 bf).1 1021) 93 = .ok (.getfield 21, 3) := zd zm_1021 (by decide +kernel)
theorem d_1021_96 {σ : Nat → Nat} {n0 : Nat} {bf : ab_B} : decode (ab_code (zx σ n0 bf).1 1021) 96 = .ok (.iload_n 1, 1) := zd zm_1021 (by decide +kernel)
theorem d_1021_97 {σ : Nat → Nat} {n0 : Nat} {bf : ab_B} : decode (ab_code (zx σ n0 bf).1 1021) 97 = .ok (.iload 7, 2) := zd zm_1021 (by decide +kernel)
theorem d_1021_99 {σ : Nat → Nat} {n0 : Nat} {bf : ab_B} : decode (ab_code (zx σ n0 bf).1 1021) 99 = .ok (.iadd, 1) := zd zm_1021 (by decide +kernel)
theorem d_1021_100 {σ : Nat → Nat} {n0 : Nat} {bf : ab_B} : decode (ab_code (zx σ n0 bf).1 1021) 100 = .ok (.iaload, 1) := zd zm_1021 (by decide +kernel)
theorem d_1021_101 {σ : Nat → Nat} {n0 : Nat} {bf : ab_B} : decode (ab_code (zx σ n0 bf).1 1021) 101 = .ok (.ldc_w 373, 3) := zd zm_1021 (by decide +kernel)
theorem d_1021_104 {σ : Nat → Nat} {n0 : Nat} {bf : ab_B} : decode (ab_code (zx σ n0 bf).1 1021) 104 = .ok (.if_icmp .ne 7, 3) := zd zm_1021 (by decide +kernel)
theorem d_1021_107 {σ : Nat → Nat} {n0 : Nat} {bf : ab_B} : decode (ab_code (zx σ n0 bf).1 1021) 107 = .ok (.iconst 1, 1) := zd zm_1021 (by decide +kernel)
theorem d_1021_108 {σ : Nat → Nat} {n0 : Nat} {bf : ab_B} : decode (ab_code (zx σ n0 bf).1 1021) 108 = .ok (.goto 4, 3) := zd zm_1021 (by decide +kernel)
theorem d_1021_111 {σ : Nat → Nat} {n0 : Nat} {bf : ab_B} : decode (ab_code (zx σ n0 bf).1 1021) 111 = .ok (.iconst 0, 1) := zd zm_1021 (by decide +kernel)
theorem d_1021_112 {σ : Nat → Nat} {n0 : Nat} {bf : ab_B} : decode (ab_code (zx σ n0 bf).1 1021) 112 = .ok (.istore 6, 2) := zd zm_1021 (by decide +kernel)
theorem d_1021_114 {σ : Nat → Nat} {n0 : Nat} {bf : ab_B} : decode (ab_code (zx σ n0 bf).1 1021) 114 = .ok (.iinc 7 1, 3) := zd zm_1021 (by decide +kernel)
theorem d_1021_117 {σ : Nat → Nat} {n0 : Nat} {bf : ab_B} : decode (ab_code (zx σ n0 bf).1 1021) 117 = .ok (.goto (-49), 3) := zd zm_1021 (by decide +kernel)
theorem d_1021_120 {σ : Nat → Nat} {n0 : Nat} {bf : ab_B} : decode (ab_code (zx σ n0 bf).1 1021) 120 = .ok (.iload 6, 2) := zd zm_1021 (by decide +kernel)
theorem d_1021_122 {σ : Nat → Nat} {n0 : Nat} {bf : ab_B} : decode (ab_code (zx σ n0 bf).1 1021) 122 = .ok (.ifCond .ne 12, 3) := zd zm_1021 (by decide +kernel)
theorem d_1021_125 {σ : Nat → Nat} {n0 : Nat} {bf : ab_B} : decode (ab_code (zx σ n0 bf).1 1021) 125 = .ok (.aload_n 0, 1) := zd zm_1021 (by decide +kernel)
theorem d_1021_126 {σ : Nat → Nat} {n0 : Nat} {bf : ab_B} : decode (ab_code (zx σ n0 bf).1 1021) 126 = .ok (.iconst 1, 1) := zd zm_1021 (by decide +kernel)
theorem d_1021_127 {σ : Nat → Nat} {n0 : Nat} {bf : ab_B} : decode (ab_code (zx σ n0 bf).1 1021) 127 = .ok (.iload 4, 2) := zd zm_1021 (by decide +kernel)
theorem d_1021_129 {σ : Nat → Nat} {n0 : Nat} {bf : ab_B} : decode (ab_code (zx σ n0 bf).1 1021) 129 = .ok (.invokevirtual 194, 3) := zd zm_1021 (by decide +kernel)
theorem d_1021_132 {σ : Nat → Nat} {n0 : Nat} {bf : ab_B} : decode (ab_code (zx σ n0 bf).1 1021) 132 = .ok (.pop, 1) := zd zm_1021 (by decide +kernel)
theorem d_1021_133 {σ : Nat → Nat} {n0 : Nat} {bf : ab_B} : decode (ab_code (zx σ n0 bf).1 1021) 133 = .ok (.return_, 1) := zd zm_1021 (by decide +kernel)
theorem d_1021_134 {σ : Nat → Nat} {n0 : Nat} {bf : ab_B} : decode (ab_code (zx σ n0 bf).1 1021) 134 = .ok (.aload_n 0, 1) := zd zm_1021 (by decide +kernel)
theorem d_1021_135 {σ : Nat → Nat} {n0 : Nat} {bf : ab_B} : decode (ab_code (zx σ n0 bf).1 1021) 135 = .ok (.iload 5, 2) := zd zm_1021 (by decide +kernel)
theorem d_1021_137 {σ : Nat → Nat} {n0 : Nat} {bf : ab_B} : decode (ab_code (zx σ n0 bf).1 1021) 137 = .ok (.iload 4, 2) := zd zm_1021 (by decide +kernel)
theorem d_1021_139 {σ : Nat → Nat} {n0 : Nat} {bf : ab_B} : decode (ab_code (zx σ n0 bf).1 1021) 139 = .ok (.invokevirtual 227, 3) := zd zm_1021 (by decide +kernel)
theorem d_1021_142 {σ : Nat → Nat} {n0 : Nat} {bf : ab_B} : decode (ab_code (zx σ n0 bf).1 1021) 142 = .ok (.ifCond .ne 4, 3) := zd zm_1021 (by decide +kernel)
theorem d_1021_145 {σ : Nat → Nat} {n0 : Nat} {bf : ab_B} : decode (ab_code (zx σ n0 bf).1 1021) 145 = .ok (.return_, 1) := zd zm_1021 (by decide +kernel)
theorem d_1021_146 {σ : Nat → Nat} {n0 : Nat} {bf : ab_B} : decode (ab_code (zx σ n0 bf).1 1021) 146 = .ok (.iconst 1, 1) := zd zm_1021 (by decide +kernel)
theorem d_1021_147 {σ : Nat → Nat} {n0 : Nat} {bf : ab_B} : decode (ab_code (zx σ n0 bf).1 1021) 147 = .ok (.istore 7, 2) := zd zm_1021 (by decide +kernel)
theorem d_1021_149 {σ : Nat → Nat} {n0 : Nat} {bf : ab_B} : decode (ab_code (zx σ n0 bf).1 1021) 149 = .ok (.iload 7, 2) := zd zm_1021 (by decide +kernel)
theorem d_1021_151 {σ : Nat → Nat} {n0 : Nat} {bf : ab_B} : decode (ab_code (zx σ n0 bf).1 1021) 151 = .ok (.iload 5, 2) := zd zm_1021 (by decide +kernel)
theorem d_1021_153 {σ : Nat → Nat} {n0 : Nat} {bf : ab_B} : decode (ab_code (zx σ n0 bf).1 1021) 153 = .ok (.if_icmp .gt 36, 3) := zd zm_1021 (by decide +kernel)
theorem d_1021_156 {σ : Nat → Nat} {n0 : Nat} {bf : ab_B} : decode (ab_code (zx σ n0 bf).1 1021) 156 = .ok (.aload_n 0, 1) := zd zm_1021 (by decide +kernel)
theorem d_1021_157 {σ : Nat → Nat} {n0 : Nat} {bf : ab_B} : decode (ab_code (zx σ n0 bf).1 1021) 157 = .ok (.getfield 42, 3) := zd zm_1021 (by decide +kernel)
theorem d_1021_160 {σ : Nat → Nat} {n0 : Nat} {bf : ab_B} : decode (ab_code (zx σ n0 bf).1 1021) 160 = .ok (.aload_n 0, 1) := zd zm_1021 (by decide +kernel)
theorem d_1021_161 {σ : Nat → Nat} {n0 : Nat} {bf : ab_B} : decode (ab_code (zx σ n0 bf).1 1021) 161 = .ok (.dup, 1) := zd zm_1021 (by decide +kernel)
theorem d_1021_162 {σ : Nat → Nat} {n0 : Nat} {bf : ab_B} : decode (ab_code (zx σ n0 bf).1 1021) 162 = .ok (.getfield 117, 3) := zd zm_1021 (by decide +kernel)
theorem d_1021_165 {σ : Nat → Nat} {n0 : Nat} {bf : ab_B} : decode (ab_code (zx σ n0 bf).1 1021) 165 = .ok (.dup_x1, 1) := zd zm_1021 (by decide +kernel)
theorem d_1021_166 {σ : Nat → Nat} {n0 : Nat} {bf : ab_B} : decode (ab_code (zx σ n0 bf).1 1021) 166 = .ok (.iconst 1, 1) := zd zm_1021 (by decide +kernel)
theorem d_1021_167 {σ : Nat → Nat} {n0 : Nat} {bf : ab_B} : decode (ab_code (zx σ n0 bf).1 1021) 167 = .ok (.iadd, 1) := zd zm_1021 (by decide +kernel)
theorem d_1021_168 {σ : Nat → Nat} {n0 : Nat} {bf : ab_B} : decode (ab_code (zx σ n0 bf).1 1021) 168 = .ok (.putfield 117, 3) := zd zm_1021 (by decide +kernel)
theorem d_1021_171 {σ : Nat → Nat} {n0 : Nat} {bf : ab_B} : decode (ab_code (zx σ n0 bf).1 1021) 171 = .ok (.aload_n 0, 1) := zd zm_1021 (by decide +kernel)
theorem d_1021_172 {σ : Nat → Nat} {n0 : Nat} {bf : ab_B} : decode (ab_code (zx σ n0 bf).1 1021) 172 = .ok (.getfield 10, 3) := zd zm_1021 (by decide +kernel)
theorem d_1021_175 {σ : Nat → Nat} {n0 : Nat} {bf : ab_B} : decode (ab_code (zx σ n0 bf).1 1021) 175 = .ok (.iload_n 1, 1) := zd zm_1021 (by decide +kernel)
theorem d_1021_176 {σ : Nat → Nat} {n0 : Nat} {bf : ab_B} : decode (ab_code (zx σ n0 bf).1 1021) 176 = .ok (.iload 7, 2) := zd zm_1021 (by decide +kernel)
theorem d_1021_178 {σ : Nat → Nat} {n0 : Nat} {bf : ab_B} : decode (ab_code (zx σ n0 bf).1 1021) 178 = .ok (.iadd, 1) := zd zm_1021 (by decide +kernel)
theorem d_1021_179 {σ : Nat → Nat} {n0 : Nat} {bf : ab_B} : decode (ab_code (zx σ n0 bf).1 1021) 179 = .ok (.laload, 1) := zd zm_1021 (by decide +kernel)
theorem d_1021_180 {σ : Nat → Nat} {n0 : Nat} {bf : ab_B} : decode (ab_code (zx σ n0 bf).1 1021) 180 = .ok (.l2i, 1) := zd zm_1021 (by decide +kernel)
theorem d_1021_181 {σ : Nat → Nat} {n0 : Nat} {bf : ab_B} : decode (ab_code (zx σ n0 bf).1 1021) 181 = .ok (.i2b, 1) := zd zm_1021 (by decide +kernel)
theorem d_1021_182 {σ : Nat → Nat} {n0 : Nat} {bf : ab_B} : decode (ab_code (zx σ n0 bf).1 1021) 182 = .ok (.bastore, 1) := zd zm_1021 (by decide +kernel)
theorem d_1021_183 {σ : Nat → Nat} {n0 : Nat} {bf : ab_B} : decode (ab_code (zx σ n0 bf).1 1021) 183 = .ok (.iinc 7 1, 3) := zd zm_1021 (by decide +kernel)
theorem d_1021_186 {σ : Nat → Nat} {n0 : Nat} {bf : ab_B} : decode (ab_code (zx σ n0 bf).1 1021) 186 = .ok (.goto (-37), 3) := zd zm_1021 (by decide +kernel)
theorem d_1021_189 {σ : Nat → Nat} {n0 : Nat} {bf : ab_B} : decode (ab_code (zx σ n0 bf).1 1021) 189 = .ok (.return_, 1) := zd zm_1021 (by decide +kernel)
def w_X2_loadText_65 (X : zs_X) (d : Nat) (p0 : Nat) (p1 : Int32) (p4 : Int32) (p5 : Int32) (p6 : Int32) (S : zs_T) (Q : zs_Q) : Prop :=
  (zs_U X d 1021 68 [(0, .ref p0), (1, .int p1), (4, .int p4), (5, .int p5), (6, .int p6), (7, .int (1 : Int32))] [] S Q)
theorem u_X2_loadText_65 {σ : Nat → Nat} {n0 : Nat} {bf : ab_B} {d : Nat} {p0 : Nat} {p1 : Int32} {p4 : Int32} {p5 : Int32} {p6 : Int32} {S : zs_T} {Q : zs_Q} (hB : zt_B bf) (h : w_X2_loadText_65 (zx σ n0 bf) d p0 p1 p4 p5 p6 S Q) : zs_U (zx σ n0 bf) d 1021 65 [(0, .ref p0), (1, .int p1), (4, .int p4), (5, .int p5), (6, .int p6)] [] S Q := by
  unfold w_X2_loadText_65 at h
  refine zu_iconst d_1021_65 zi_1 ?_
  refine zu_istore d_1021_66 (zs_lt zq_1021 rfl) ?_
  exact h.weak ⟨rfl, rfl, rfl, rfl, rfl, rfl, trivial⟩
def w_X2_loadText_62 (X : zs_X) (d : Nat) (p0 : Nat) (p1 : Int32) (p4 : Int32) (p5 : Int32) (S : zs_T) (Q : zs_Q) : Prop :=
  (w_X2_loadText_65 X d p0 p1 p4 p5 (0 : Int32) S Q)
theorem u_X2_loadText_62 {σ : Nat → Nat} {n0 : Nat} {bf : ab_B} {d : Nat} {p0 : Nat} {p1 : Int32} {p4 : Int32} {p5 : Int32} {S : zs_T} {Q : zs_Q} (hB : zt_B bf) (h : w_X2_loadText_62 (zx σ n0 bf) d p0 p1 p4 p5 S Q) : zs_U (zx σ n0 bf) d 1021 62 [(0, .ref p0), (1, .int p1), (4, .int p4), (5, .int p5)] [] S Q := by
  unfold w_X2_loadText_62 at h
  refine zu_iconst d_1021_62 zi_0 ?_
  refine zu_istore d_1021_63 (zs_lt zq_1021 rfl) ?_
  exact (u_X2_loadText_65 hB h).weak ⟨rfl, rfl, rfl, rfl, rfl, trivial⟩
def w_X2_loadText_32 (X : zs_X) (d : Nat) (p0 : Nat) (p1 : Int32) (p2 : Int32) (p3 : Option Nat) (p4 : Int32) (q0 : Int32) (S : zs_T) (Q : zs_Q) : Prop :=
  (((q0 < 0 → w_X2_loadText_62 X d p0 p1 p4 q0 S Q) ∧ (¬ (q0 < 0) → (zs_K S p0 = some (.inl 1) ∧ ∃ b3, p3 = some b3 ∧ zs_K S b3 = some (.inl 6) ∧ ∃ b6, (zs_R S 1004 p0) = some b6 ∧ zs_K S b6 = some (.inl 2) ∧ zs_C X d 2001 [.ref b6, va_rf (zs_R S 6004 b3), .int p2] S (zs_kJ (fun v10 S9 => (((v10 < ((q0).toInt64) → w_X2_loadText_62 X d p0 p1 p4 q0 S9 Q) ∧ (¬ (v10 < ((q0).toInt64)) → (w_X2_loadText_65 X d p0 p1 p4 q0 (1 : Int32) S9 Q))))) Q)))))
theorem u_X2_loadText_32 {σ : Nat → Nat} {n0 : Nat} {bf : ab_B} {d : Nat} {p0 : Nat} {p1 : Int32} {p2 : Int32} {p3 : Option Nat} {p4 : Int32} {q0 : Int32} {S : zs_T} {Q : zs_Q} (hB : zt_B bf) (h : w_X2_loadText_32 (zx σ n0 bf) d p0 p1 p2 p3 p4 q0 S Q) : zs_U (zx σ n0 bf) d 1021 32 [(0, .ref p0), (1, .int p1), (2, .int p2), (3, va_rf p3), (4, .int p4)] [.int q0] S Q := by
  unfold w_X2_loadText_32 at h
  refine zu_istore d_1021_32 (zs_lt zq_1021 rfl) ?_
  refine zu_iload d_1021_34 rfl ?_
  refine zu_iflt (t := 62) d_1021_36 rfl (fun c1 => ?_) (fun c1 => ?_)
  · have h := h.1 c1
    exact (u_X2_loadText_62 hB h).weak ⟨rfl, rfl, rfl, rfl, trivial⟩
  · have h := h.2 c1
    refine zu_iload d_1021_39 rfl ?_
    refine zu_stk d_1021_41 rfl rfl ?_
    refine zu_aload_n d_1021_42 rfl (zs_ra _) ?_
    obtain ⟨k2, h⟩ := h
    refine zg_1_31 rfl d_1021_43 k2 ?_
    refine zu_aload_n d_1021_46 rfl (zs_rr _) ?_
    obtain ⟨b3, e4, h⟩ := h
    refine zs_stk0 (zs_rfe e4) ?_
    obtain ⟨k5, h⟩ := h
    refine zg_1_366 rfl d_1021_47 k5 ?_
    refine zu_iload_n d_1021_50 rfl ?_
    obtain ⟨b6, e7, h⟩ := h
    refine zs_stk2 (zs_rfe e7) ?_
    obtain ⟨k8, h⟩ := h
    refine zc_1_369 (x0 := (zs_R S 6004 b3)) (x1 := p2) hB rfl k8 d_1021_51 (Nat.le_of_ble_eq_true rfl) h (fun v10 S9 h => ?_)
    refine zu_lgt (t := 62) d_1021_54 d_1021_55 rfl (fun c11 => ?_) (fun c11 => ?_)
    · have h := h.1 c11
      exact (u_X2_loadText_62 hB h).weak ⟨rfl, rfl, rfl, rfl, trivial⟩
    · have h := h.2 c11
      refine zu_iconst d_1021_58 zi_1 ?_
      refine zu_goto (t := 63) d_1021_59 rfl ?_
      refine zu_istore d_1021_63 (zs_lt zq_1021 rfl) ?_
      exact (u_X2_loadText_65 hB h).weak ⟨rfl, rfl, rfl, rfl, rfl, trivial⟩
def w_X2_loadText_31 (X : zs_X) (d : Nat) (p0 : Nat) (p1 : Int32) (p2 : Int32) (p3 : Option Nat) (p4 : Int32) (S : zs_T) (Q : zs_Q) : Prop :=
  (w_X2_loadText_32 X d p0 p1 p2 p3 p4 (-1 : Int32) S Q)
theorem u_X2_loadText_31 {σ : Nat → Nat} {n0 : Nat} {bf : ab_B} {d : Nat} {p0 : Nat} {p1 : Int32} {p2 : Int32} {p3 : Option Nat} {p4 : Int32} {S : zs_T} {Q : zs_Q} (hB : zt_B bf) (h : w_X2_loadText_31 (zx σ n0 bf) d p0 p1 p2 p3 p4 S Q) : zs_U (zx σ n0 bf) d 1021 31 [(0, .ref p0), (1, .int p1), (2, .int p2), (3, va_rf p3), (4, .int p4)] [] S Q := by
  unfold w_X2_loadText_31 at h
  refine zu_iconst d_1021_31 zi_m1 ?_
  exact (u_X2_loadText_32 hB h).weak ⟨rfl, rfl, rfl, rfl, rfl, trivial⟩
def w_X2_loadText_120 (X : zs_X) (d : Nat) (p0 : Nat) (p1 : Int32) (p4 : Int32) (p5 : Int32) (p6 : Int32) (S : zs_T) (Q : zs_Q) : Prop :=
  (((¬ p6 = 0 → (zs_K S p0 = some (.inl 1) ∧ zs_C X d 1010 [.ref p0, .int p5, .int p4] S (zs_kI (fun v4 S3 => (((¬ v4 = 0 → (zs_U X d 1021 149 [(0, .ref p0), (1, .int p1), (5, .int p5), (7, .int (1 : Int32))] [] S3 Q)) ∧ (¬ (¬ v4 = 0) → (Q (.returned none) S3))))) Q))) ∧ (¬ (¬ p6 = 0) → (zs_K S p0 = some (.inl 1) ∧ zs_C X d 1004 [.ref p0, .int (1 : Int32), .int p4] S (zs_kI (fun v8 S7 => (Q (.returned none) S7)) Q)))))
theorem u_X2_loadText_120 {σ : Nat → Nat} {n0 : Nat} {bf : ab_B} {d : Nat} {p0 : Nat} {p1 : Int32} {p4 : Int32} {p5 : Int32} {p6 : Int32} {S : zs_T} {Q : zs_Q} (hB : zt_B bf) (h : w_X2_loadText_120 (zx σ n0 bf) d p0 p1 p4 p5 p6 S Q) : zs_U (zx σ n0 bf) d 1021 120 [(0, .ref p0), (1, .int p1), (4, .int p4), (5, .int p5), (6, .int p6)] [] S Q := by
  unfold w_X2_loadText_120 at h
  refine zu_iload d_1021_120 rfl ?_
  refine zu_ifne (t := 134) d_1021_122 rfl (fun c1 => ?_) (fun c1 => ?_)
  · have h := h.1 c1
    refine zu_aload_n d_1021_134 rfl (zs_ra _) ?_
    refine zu_iload d_1021_135 rfl ?_
    refine zu_iload d_1021_137 rfl ?_
    obtain ⟨k2, h⟩ := h
    refine zc_1_227 (x0 := p5) (x1 := p4) hB rfl k2 d_1021_139 (Nat.le_of_ble_eq_true rfl) h (fun v4 S3 h => ?_)
    refine zu_ifne (t := 146) d_1021_142 rfl (fun c5 => ?_) (fun c5 => ?_)
    · have h := h.1 c5
      refine zu_iconst d_1021_146 zi_1 ?_
      refine zu_istore d_1021_147 (zs_lt zq_1021 rfl) ?_
      exact h.weak ⟨rfl, rfl, rfl, rfl, trivial⟩
    · have h := h.2 c5
      exact zu_vret d_1021_145 zr_1021 h
  · have h := h.2 c1
    refine zu_aload_n d_1021_125 rfl (zs_ra _) ?_
    refine zu_iconst d_1021_126 zi_1 ?_
    refine zu_iload d_1021_127 rfl ?_
    obtain ⟨k6, h⟩ := h
    refine zc_1_194 (x0 := (1 : Int32)) (x1 := p4) hB rfl k6 d_1021_129 (Nat.le_of_ble_eq_true rfl) h (fun v8 S7 h => ?_)
    refine zu_pop d_1021_132 rfl ?_
    exact zu_vret d_1021_133 zr_1021 h
def w_X2_loadText_111 (X : zs_X) (d : Nat) (p0 : Nat) (p1 : Int32) (p4 : Int32) (p5 : Int32) (p7 : Int32) (S : zs_T) (Q : zs_Q) : Prop :=
  (zs_U X d 1021 68 [(0, .ref p0), (1, .int p1), (4, .int p4), (5, .int p5), (6, .int (0 : Int32)), (7, .int (p7 + (1 : Int32)))] [] S Q)
theorem u_X2_loadText_111 {σ : Nat → Nat} {n0 : Nat} {bf : ab_B} {d : Nat} {p0 : Nat} {p1 : Int32} {p4 : Int32} {p5 : Int32} {p7 : Int32} {S : zs_T} {Q : zs_Q} (hB : zt_B bf) (h : w_X2_loadText_111 (zx σ n0 bf) d p0 p1 p4 p5 p7 S Q) : zs_U (zx σ n0 bf) d 1021 111 [(0, .ref p0), (1, .int p1), (4, .int p4), (5, .int p5), (7, .int p7)] [] S Q := by
  unfold w_X2_loadText_111 at h
  refine zu_iconst d_1021_111 zi_0 ?_
  refine zu_istore d_1021_112 (zs_lt zq_1021 rfl) ?_
  refine zu_iinc d_1021_114 rfl zi_1 (zs_lt zq_1021 rfl) ?_
  refine zu_goto (t := 68) d_1021_117 rfl ?_
  exact h.weak ⟨rfl, rfl, rfl, rfl, rfl, rfl, trivial⟩
def w_X2_loadText_107 (X : zs_X) (d : Nat) (p0 : Nat) (p1 : Int32) (p4 : Int32) (p5 : Int32) (p7 : Int32) (S : zs_T) (Q : zs_Q) : Prop :=
  (zs_U X d 1021 68 [(0, .ref p0), (1, .int p1), (4, .int p4), (5, .int p5), (6, .int (1 : Int32)), (7, .int (p7 + (1 : Int32)))] [] S Q)
theorem u_X2_loadText_107 {σ : Nat → Nat} {n0 : Nat} {bf : ab_B} {d : Nat} {p0 : Nat} {p1 : Int32} {p4 : Int32} {p5 : Int32} {p7 : Int32} {S : zs_T} {Q : zs_Q} (hB : zt_B bf) (h : w_X2_loadText_107 (zx σ n0 bf) d p0 p1 p4 p5 p7 S Q) : zs_U (zx σ n0 bf) d 1021 107 [(0, .ref p0), (1, .int p1), (4, .int p4), (5, .int p5), (7, .int p7)] [] S Q := by
  unfold w_X2_loadText_107 at h
  refine zu_iconst d_1021_107 zi_1 ?_
  refine zu_goto (t := 112) d_1021_108 rfl ?_
  refine zu_istore d_1021_112 (zs_lt zq_1021 rfl) ?_
  refine zu_iinc d_1021_114 rfl zi_1 (zs_lt zq_1021 rfl) ?_
  refine zu_goto (t := 68) d_1021_117 rfl ?_
  exact h.weak ⟨rfl, rfl, rfl, rfl, rfl, rfl, trivial⟩
def w_X2_loadText_68 (X : zs_X) (d : Nat) (p0 : Nat) (p1 : Int32) (p4 : Int32) (p5 : Int32) (p6 : Int32) (p7 : Int32) (S : zs_T) (Q : zs_Q) : Prop :=
  (((p5 < p7 → w_X2_loadText_120 X d p0 p1 p4 p5 p6 S Q) ∧ (¬ (p5 < p7) → (((p6 = 0 → w_X2_loadText_120 X d p0 p1 p4 p5 p6 S Q) ∧ (¬ (p6 = 0) → (zs_K S p0 = some (.inl 1) ∧ ∃ b4, (zs_R S 1002 p0) = some b4 ∧ zs_A S b4 2 (p1 + p7) ∧ (((zs_i S b4 (p1 + p7).toNatClampNeg) = 0 → w_X2_loadText_111 X d p0 p1 p4 p5 p7 S Q) ∧ (¬ ((zs_i S b4 (p1 + p7).toNatClampNeg) = 0) → (∃ b8, (zs_R S 1003 p0) = some b8 ∧ zs_A S b8 0 (p1 + p7) ∧ ((¬ (zs_i S b8 (p1 + p7).toNatClampNeg) = (3000001 : Int32) → w_X2_loadText_111 X d p0 p1 p4 p5 p7 S Q) ∧ (¬ (¬ (zs_i S b8 (p1 + p7).toNatClampNeg) = (3000001 : Int32)) → w_X2_loadText_107 X d p0 p1 p4 p5 p7 S Q))))))))))))
theorem u_X2_loadText_68 {σ : Nat → Nat} {n0 : Nat} {bf : ab_B} {d : Nat} {p0 : Nat} {p1 : Int32} {p4 : Int32} {p5 : Int32} {p6 : Int32} {p7 : Int32} {S : zs_T} {Q : zs_Q} (hB : zt_B bf) (h : w_X2_loadText_68 (zx σ n0 bf) d p0 p1 p4 p5 p6 p7 S Q) : zs_U (zx σ n0 bf) d 1021 68 [(0, .ref p0), (1, .int p1), (4, .int p4), (5, .int p5), (6, .int p6), (7, .int p7)] [] S Q := by
  unfold w_X2_loadText_68 at h
  refine zu_iload d_1021_68 rfl ?_
  refine zu_iload d_1021_70 rfl ?_
  refine zu_cmpgt (t := 120) d_1021_72 rfl (fun c1 => ?_) (fun c1 => ?_)
  · have h := h.1 c1
    exact (u_X2_loadText_120 hB h).weak ⟨rfl, rfl, rfl, rfl, rfl, trivial⟩
  · have h := h.2 c1
    refine zu_iload d_1021_75 rfl ?_
    refine zu_ifeq (t := 120) d_1021_77 rfl (fun c2 => ?_) (fun c2 => ?_)
    · have h := h.1 c2
      exact (u_X2_loadText_120 hB h).weak ⟨rfl, rfl, rfl, rfl, rfl, trivial⟩
    · have h := h.2 c2
      refine zu_aload_n d_1021_80 rfl (zs_ra _) ?_
      obtain ⟨k3, h⟩ := h
      refine zg_1_17 rfl d_1021_81 k3 ?_
      refine zu_iload_n d_1021_84 rfl ?_
      refine zu_iload d_1021_85 rfl ?_
      refine zu_stk d_1021_87 rfl rfl ?_
      obtain ⟨b4, e5, h⟩ := h
      refine zs_stk1 (zs_rfe e5) ?_
      obtain ⟨k6, h⟩ := h
      refine zu_bald (k := 2) d_1021_88 rfl (Or.inr rfl) k6 ?_
      refine zu_ifeq (t := 111) d_1021_89 rfl (fun c7 => ?_) (fun c7 => ?_)
      · have h := h.1 c7
        exact (u_X2_loadText_111 hB h).weak ⟨rfl, rfl, rfl, rfl, rfl, trivial⟩
      · have h := h.2 c7
        refine zu_aload_n d_1021_92 rfl (zs_ra _) ?_
        refine zg_1_21 rfl d_1021_93 k3 ?_
        refine zu_iload_n d_1021_96 rfl ?_
        refine zu_iload d_1021_97 rfl ?_
        refine zu_stk d_1021_99 rfl rfl ?_
        obtain ⟨b8, e9, h⟩ := h
        refine zs_stk1 (zs_rfe e9) ?_
        obtain ⟨k10, h⟩ := h
        refine zu_iald (k := 0) d_1021_100 rfl rfl k10 ?_
        refine zlw_1_373 rfl d_1021_101 ?_
        refine zu_cmpne (t := 111) d_1021_104 rfl (fun c11 => ?_) (fun c11 => ?_)
        · have h := h.1 c11
          exact (u_X2_loadText_111 hB h).weak ⟨rfl, rfl, rfl, rfl, rfl, trivial⟩
        · have h := h.2 c11
          exact (u_X2_loadText_107 hB h).weak ⟨rfl, rfl, rfl, rfl, rfl, trivial⟩
def w_X2_loadText_183 (X : zs_X) (d : Nat) (p0 : Nat) (p1 : Int32) (p5 : Int32) (p7 : Int32) (S : zs_T) (Q : zs_Q) : Prop :=
  (zs_U X d 1021 149 [(0, .ref p0), (1, .int p1), (5, .int p5), (7, .int (p7 + (1 : Int32)))] [] S Q)
theorem u_X2_loadText_183 {σ : Nat → Nat} {n0 : Nat} {bf : ab_B} {d : Nat} {p0 : Nat} {p1 : Int32} {p5 : Int32} {p7 : Int32} {S : zs_T} {Q : zs_Q} (hB : zt_B bf) (h : w_X2_loadText_183 (zx σ n0 bf) d p0 p1 p5 p7 S Q) : zs_U (zx σ n0 bf) d 1021 183 [(0, .ref p0), (1, .int p1), (5, .int p5), (7, .int p7)] [] S Q := by
  unfold w_X2_loadText_183 at h
  refine zu_iinc d_1021_183 rfl zi_1 (zs_lt zq_1021 rfl) ?_
  refine zu_goto (t := 149) d_1021_186 rfl ?_
  exact h.weak ⟨rfl, rfl, rfl, rfl, trivial⟩
def w_X2_loadText_149 (X : zs_X) (d : Nat) (p0 : Nat) (p1 : Int32) (p5 : Int32) (p7 : Int32) (S : zs_T) (Q : zs_Q) : Prop :=
  (((p5 < p7 → (Q (.returned none) S)) ∧ (¬ (p5 < p7) → (zs_K S p0 = some (.inl 1) ∧ ab_n0 X.1 ≤ p0 ∧ ∀ S4, S4 = zs_sI S 1011 p0 ((zs_I S 1011 p0) + (1 : Int32)) → ∃ b7, (zs_R S4 1001 p0) = some b7 ∧ zs_A S b7 3 (p1 + p7) ∧ ∃ b10, (zs_R S 1008 p0) = some b10 ∧ zs_A S b10 1 (zs_I S 1011 p0) ∧ ab_n0 X.1 ≤ b10 ∧ ∀ S14, S14 = zs_si S4 b10 (zs_I S 1011 p0).toNatClampNeg (vp_nar .byte (((((zs_j S4 b7 (p1 + p7).toNatClampNeg)).toInt32)).toInt8.toInt32)) → w_X2_loadText_183 X d p0 p1 p5 p7 S14 Q))))
theorem u_X2_loadText_149 {σ : Nat → Nat} {n0 : Nat} {bf : ab_B} {d : Nat} {p0 : Nat} {p1 : Int32} {p5 : Int32} {p7 : Int32} {S : zs_T} {Q : zs_Q} (hB : zt_B bf) (h : w_X2_loadText_149 (zx σ n0 bf) d p0 p1 p5 p7 S Q) : zs_U (zx σ n0 bf) d 1021 149 [(0, .ref p0), (1, .int p1), (5, .int p5), (7, .int p7)] [] S Q := by
  unfold w_X2_loadText_149 at h
  refine zu_iload d_1021_149 rfl ?_
  refine zu_iload d_1021_151 rfl ?_
  refine zu_cmpgt (t := 189) d_1021_153 rfl (fun c1 => ?_) (fun c1 => ?_)
  · have h := h.1 c1
    exact zu_vret d_1021_189 zr_1021 h
  · have h := h.2 c1
    refine zu_aload_n d_1021_156 rfl (zs_ra _) ?_
    obtain ⟨k2, h⟩ := h
    refine zg_1_42 rfl d_1021_157 k2 ?_
    refine zu_aload_n d_1021_160 rfl (zs_ra _) ?_
    refine zu_dup d_1021_161 rfl ?_
    refine zg_1_117 rfl d_1021_162 k2 ?_
    refine zu_dup_x1 d_1021_165 rfl rfl ?_
    refine zu_iconst d_1021_166 zi_1 ?_
    refine zu_stk d_1021_167 rfl rfl ?_
    obtain ⟨k3, h⟩ := h
    refine zp_1_117 (v := ((zs_I S 1011 p0) + (1 : Int32))) rfl d_1021_168 k2 k3 ?_
    generalize e5 : zs_sI S 1011 p0 ((zs_I S 1011 p0) + (1 : Int32)) = S4
    have h := h S4 e5.symm
    have K6 : ∀ b, zs_K S4 b = zs_K S b := zs_Kt e5 (zs_KsI _ _ _ _) (fun _ => rfl)
    refine zu_aload_n d_1021_171 rfl (zs_ra _) ?_
    refine zg_1_10 rfl d_1021_172 ((K6 _).trans k2) ?_
    refine zu_iload_n d_1021_175 rfl ?_
    refine zu_iload d_1021_176 rfl ?_
    refine zu_stk d_1021_178 rfl rfl ?_
    obtain ⟨b7, e8, h⟩ := h
    refine zs_stk1 (zs_rfe e8) ?_
    obtain ⟨k9, h⟩ := h
    refine zu_lald (k := 3) d_1021_179 rfl rfl (zs_Ak K6 k9) ?_
    refine zu_stk d_1021_180 rfl rfl ?_
    refine zu_stk d_1021_181 rfl rfl ?_
    obtain ⟨b10, e11, h⟩ := h
    refine zs_stk2 (zs_rfe e11) ?_
    obtain ⟨k12, h⟩ := h
    obtain ⟨k13, h⟩ := h
    refine zu_bast_byte (k := 1) d_1021_182 rfl rfl k13 (zs_Ak K6 k12) ?_
    generalize e15 : zs_si S4 b10 (zs_I S 1011 p0).toNatClampNeg (vp_nar .byte (((((zs_j S4 b7 (p1 + p7).toNatClampNeg)).toInt32)).toInt8.toInt32)) = S14
    have h := h S14 e15.symm
    have K16 : ∀ b, zs_K S14 b = zs_K S b := zs_Kt e15 (zs_Ksi _ _ _ _) K6
    exact (u_X2_loadText_183 hB h).weak ⟨rfl, rfl, rfl, rfl, trivial⟩
def w_X2_loadText (X : zs_X) (d : Nat) (p0 : Nat) (p1 : Int32) (p2 : Int32) (p3 : Option Nat) (p4 : Int32) (S : zs_T) (Q : zs_Q) : Prop :=
  (zs_K S p0 = some (.inl 1) ∧ ∃ b2, (zs_R S 1002 p0) = some b2 ∧ zs_A S b2 2 p1 ∧ (((zs_i S b2 p1.toNatClampNeg) = 0 → w_X2_loadText_31 X d p0 p1 p2 p3 p4 S Q) ∧ (¬ ((zs_i S b2 p1.toNatClampNeg) = 0) → (∃ b6, (zs_R S 1003 p0) = some b6 ∧ zs_A S b6 0 p1 ∧ ((¬ (zs_i S b6 p1.toNatClampNeg) = (3000000 : Int32) → w_X2_loadText_31 X d p0 p1 p2 p3 p4 S Q) ∧ (¬ (¬ (zs_i S b6 p1.toNatClampNeg) = (3000000 : Int32)) → (∃ b10, (zs_R S 1001 p0) = some b10 ∧ zs_A S b10 3 p1 ∧ w_X2_loadText_32 X d p0 p1 p2 p3 p4 (((zs_j S b10 p1.toNatClampNeg)).toInt32) S Q)))))))
theorem u_X2_loadText {σ : Nat → Nat} {n0 : Nat} {bf : ab_B} {d : Nat} {p0 : Nat} {p1 : Int32} {p2 : Int32} {p3 : Option Nat} {p4 : Int32} {S : zs_T} {Q : zs_Q} (hB : zt_B bf) (hd : 1 ≤ d) (h : w_X2_loadText (zx σ n0 bf) (d - 1) p0 p1 p2 p3 p4 S Q) : zs_C (zx σ n0 bf) d 1021 [.ref p0, .int p1, .int p2, va_rf p3, .int p4] S Q := by
  have hL : lv_args 0 [.ref p0, .int p1, .int p2, va_rf p3, .int p4] = [(0, .ref p0), (1, .int p1), (2, .int p2), (3, va_rf p3), (4, .int p4)] := by simp [lv_args, zs_cat, zs_cI, zs_cJ, zs_cA]
  refine zs_C.of1 (hB.2 1021 (by decide) (by decide)) hd (by rw [hL]; exact zs_sub_self _ (by exact ⟨rfl, rfl, rfl, rfl, rfl, trivial⟩)) ?_
  rw [hL]
  clear hL
  unfold w_X2_loadText at h
  refine zu_aload_n d_1021_0 rfl (zs_ra _) ?_
  obtain ⟨k1, h⟩ := h
  refine zg_1_17 rfl d_1021_1 k1 ?_
  refine zu_iload_n d_1021_4 rfl ?_
  obtain ⟨b2, e3, h⟩ := h
  refine zs_stk1 (zs_rfe e3) ?_
  obtain ⟨k4, h⟩ := h
  refine zu_bald (k := 2) d_1021_5 rfl (Or.inr rfl) k4 ?_
  refine zu_ifeq (t := 31) d_1021_6 rfl (fun c5 => ?_) (fun c5 => ?_)
  · have h := h.1 c5
    exact (u_X2_loadText_31 hB h).weak ⟨rfl, rfl, rfl, rfl, rfl, trivial⟩
  · have h := h.2 c5
    refine zu_aload_n d_1021_9 rfl (zs_ra _) ?_
    refine zg_1_21 rfl d_1021_10 k1 ?_
    refine zu_iload_n d_1021_13 rfl ?_
    obtain ⟨b6, e7, h⟩ := h
    refine zs_stk1 (zs_rfe e7) ?_
    obtain ⟨k8, h⟩ := h
    refine zu_iald (k := 0) d_1021_14 rfl rfl k8 ?_
    refine zlw_1_365 rfl d_1021_15 ?_
    refine zu_cmpne (t := 31) d_1021_18 rfl (fun c9 => ?_) (fun c9 => ?_)
    · have h := h.1 c9
      exact (u_X2_loadText_31 hB h).weak ⟨rfl, rfl, rfl, rfl, rfl, trivial⟩
    · have h := h.2 c9
      refine zu_aload_n d_1021_21 rfl (zs_ra _) ?_
      refine zg_1_10 rfl d_1021_22 k1 ?_
      refine zu_iload_n d_1021_25 rfl ?_
      obtain ⟨b10, e11, h⟩ := h
      refine zs_stk1 (zs_rfe e11) ?_
      obtain ⟨k12, h⟩ := h
      refine zu_lald (k := 3) d_1021_26 rfl rfl k12 ?_
      refine zu_stk d_1021_27 rfl rfl ?_
      refine zu_goto (t := 32) d_1021_28 rfl ?_
      exact (u_X2_loadText_32 hB h).weak ⟨rfl, rfl, rfl, rfl, rfl, trivial⟩
/-! SchemaPascal$Machine.store(IILSchemaPascal$Type;JI)Z -/
theorem zm_1022 {σ : Nat → Nat} {n0 : Nat} {bf : ab_B} : ab_code (zx σ n0 bf).1 1022 = prog_5_method_21_code := rfl
theorem zq_1022 {σ : Nat → Nat} {n0 : Nat} {bf : ab_B} : ab_maxL (zx σ n0 bf).1 1022 = 7 := rfl
theorem zr_1022 {σ : Nat → Nat} {n0 : Nat} {bf : ab_B} : ab_ret (zx σ n0 bf).1 1022 = (Option.some Jvm.ClassFile.FieldType.boolean) := rfl
theorem d_1022_0 {σ : Nat → Nat} {n0 : Nat} {bf : ab_B} : decode (ab_code (zx σ n0 bf).1 1022) 0 = .ok (.aload_n 0, 1) := zd zm_1022 (by decide +kernel)
theorem d_1022_1 {σ : Nat → Nat} {n0 : Nat} {bf : ab_B} : decode (ab_code (zx σ n0 bf).1 1022) 1 = .ok (.aload_n 3, 1) := zd zm_1022 (by decide +kernel)
theorem d_1022_2 {σ : Nat → Nat} {n0 : Nat} {bf : ab_B} : decode (ab_code (zx σ n0 bf).1 1022) 2 = .ok (.iload_n 2, 1) := zd zm_1022 (by decide +kernel)
theorem d_1022_3 {σ : Nat → Nat} {n0 : Nat} {bf : ab_B} : decode (ab_code (zx σ n0 bf).1 1022) 3 = .ok (.lload 4, 2) := zd zm_1022 (by decide +kernel)
theorem d_1022_5 {σ : Nat → Nat} {n0 : Nat} {bf : ab_B} : decode (ab_code (zx σ n0 bf).1 1022) 5 = .ok (.invokevirtual 377, 3) := zd zm_1022 (by decide +kernel)
theorem d_1022_8 {σ : Nat → Nat} {n0 : Nat} {bf : ab_B} : decode (ab_code (zx σ n0 bf).1 1022) 8 = .ok (.ifCond .ne 11, 3) := zd zm_1022 (by decide +kernel)
theorem d_1022_11 {σ : Nat → Nat} {n0 : Nat} {bf : ab_B} : decode (ab_code (zx σ n0 bf).1 1022) 11 = .ok (.aload_n 0, 1) := zd zm_1022 (by decide +kernel)
theorem d_1022_12 {σ : Nat → Nat} {n0 : Nat} {bf : ab_B} : decode (ab_code (zx σ n0 bf).1 1022) 12 = .ok (.iconst 2, 1) := zd zm_1022 (by decide +kernel)
theorem d_1022_13 {σ : Nat → Nat} {n0 : Nat} {bf : ab_B} : decode (ab_code (zx σ n0 bf).1 1022) 13 = .ok (.iload 6, 2) := zd zm_1022 (by decide +kernel)
theorem d_1022_15 {σ : Nat → Nat} {n0 : Nat} {bf : ab_B} : decode (ab_code (zx σ n0 bf).1 1022) 15 = .ok (.invokevirtual 194, 3) := zd zm_1022 (by decide +kernel)
theorem d_1022_18 {σ : Nat → Nat} {n0 : Nat} {bf : ab_B} : decode (ab_code (zx σ n0 bf).1 1022) 18 = .ok (.ireturn, 1) := zd zm_1022 (by decide +kernel)
theorem d_1022_19 {σ : Nat → Nat} {n0 : Nat} {bf : ab_B} : decode (ab_code (zx σ n0 bf).1 1022) 19 = .ok (.aload_n 0, 1) := zd zm_1022 (by decide +kernel)
theorem d_1022_20 {σ : Nat → Nat} {n0 : Nat} {bf : ab_B} : decode (ab_code (zx σ n0 bf).1 1022) 20 = .ok (.iload_n 1, 1) := zd zm_1022 (by decide +kernel)
theorem d_1022_21 {σ : Nat → Nat} {n0 : Nat} {bf : ab_B} : decode (ab_code (zx σ n0 bf).1 1022) 21 = .ok (.lload 4, 2) := zd zm_1022 (by decide +kernel)
theorem d_1022_23 {σ : Nat → Nat} {n0 : Nat} {bf : ab_B} : decode (ab_code (zx σ n0 bf).1 1022) 23 = .ok (.aload_n 3, 1) := zd zm_1022 (by decide +kernel)
theorem d_1022_24 {σ : Nat → Nat} {n0 : Nat} {bf : ab_B} : decode (ab_code (zx σ n0 bf).1 1022) 24 = .ok (.invokestatic 381, 3) := zd zm_1022 (by decide +kernel)
theorem d_1022_27 {σ : Nat → Nat} {n0 : Nat} {bf : ab_B} : decode (ab_code (zx σ n0 bf).1 1022) 27 = .ok (.invokevirtual 385, 3) := zd zm_1022 (by decide +kernel)
theorem d_1022_30 {σ : Nat → Nat} {n0 : Nat} {bf : ab_B} : decode (ab_code (zx σ n0 bf).1 1022) 30 = .ok (.iconst 1, 1) := zd zm_1022 (by decide +kernel)
theorem d_1022_31 {σ : Nat → Nat} {n0 : Nat} {bf : ab_B} : decode (ab_code (zx σ n0 bf).1 1022) 31 = .ok (.ireturn, 1) := zd zm_1022 (by decide +kernel)
def w_X2_store (X : zs_X) (d : Nat) (p0 : Nat) (p1 : Int32) (p2 : Int32) (p3 : Option Nat) (p4 : Int64) (p6 : Int32) (S : zs_T) (Q : zs_Q) : Prop :=
  (zs_K S p0 = some (.inl 1) ∧ zs_C X d 1018 [.ref p0, va_rf p3, .int p2, .long p4] S (zs_kI (fun v3 S2 => (((¬ v3 = 0 → (zs_C X d 1017 [va_rf p3] S2 (zs_kI (fun v6 S5 => (zs_K S5 p0 = some (.inl 1) ∧ zs_C X d 1023 [.ref p0, .int p1, .long p4, .int v6] S5 (zs_kV (fun S8 => (Q (.returned (some (.int (1 : Int32)))) S8)) Q))) Q))) ∧ (¬ (¬ v3 = 0) → (zs_K S2 p0 = some (.inl 1) ∧ zs_C X d 1004 [.ref p0, .int (2 : Int32), .int p6] S2 (zs_kI (fun v12 S11 => (zs_b v12 ∧ Q (.returned (some (.int v12))) S11)) Q)))))) Q))
theorem u_X2_store {σ : Nat → Nat} {n0 : Nat} {bf : ab_B} {d : Nat} {p0 : Nat} {p1 : Int32} {p2 : Int32} {p3 : Option Nat} {p4 : Int64} {p6 : Int32} {S : zs_T} {Q : zs_Q} (hB : zt_B bf) (hd : 1 ≤ d) (h : w_X2_store (zx σ n0 bf) (d - 1) p0 p1 p2 p3 p4 p6 S Q) : zs_C (zx σ n0 bf) d 1022 [.ref p0, .int p1, .int p2, va_rf p3, .long p4, .int p6] S Q := by
  have hL : lv_args 0 [.ref p0, .int p1, .int p2, va_rf p3, .long p4, .int p6] = [(0, .ref p0), (1, .int p1), (2, .int p2), (3, va_rf p3), (4, .long p4), (6, .int p6)] := by simp [lv_args, zs_cat, zs_cI, zs_cJ, zs_cA]
  refine zs_C.of1 (hB.2 1022 (by decide) (by decide)) hd (by rw [hL]; exact zs_sub_self _ (by exact ⟨rfl, rfl, rfl, rfl, rfl, rfl, trivial⟩)) ?_
  rw [hL]
  clear hL
  unfold w_X2_store at h
  refine zu_aload_n d_1022_0 rfl (zs_ra _) ?_
  refine zu_aload_n d_1022_1 rfl (zs_rr _) ?_
  refine zu_iload_n d_1022_2 rfl ?_
  refine zu_lload d_1022_3 rfl ?_
  obtain ⟨k1, h⟩ := h
  refine zc_1_377 (x0 := p3) (x1 := p2) (x2 := p4) hB rfl k1 d_1022_5 (Nat.le_of_ble_eq_true rfl) h (fun v3 S2 h => ?_)
  refine zu_ifne (t := 19) d_1022_8 rfl (fun c4 => ?_) (fun c4 => ?_)
  · have h := h.1 c4
    refine zu_aload_n d_1022_19 rfl (zs_ra _) ?_
    refine zu_iload_n d_1022_20 rfl ?_
    refine zu_lload d_1022_21 rfl ?_
    refine zu_aload_n d_1022_23 rfl (zs_rr _) ?_
    refine zc_1_381 (x0 := p3) hB rfl d_1022_24 (Nat.le_of_ble_eq_true rfl) h (fun v6 S5 h => ?_)
    obtain ⟨k7, h⟩ := h
    refine zc_1_385 (x0 := p1) (x1 := p4) (x2 := v6) hB rfl k7 d_1022_27 (Nat.le_of_ble_eq_true rfl) h (fun S8 h => ?_)
    refine zu_iconst d_1022_30 zi_1 ?_
    exact zu_iret d_1022_31 zr_1022 (zs_b_n (Or.inr rfl)) h
  · have h := h.2 c4
    refine zu_aload_n d_1022_11 rfl (zs_ra _) ?_
    refine zu_iconst d_1022_12 zi_2 ?_
    refine zu_iload d_1022_13 rfl ?_
    obtain ⟨k10, h⟩ := h
    refine zc_1_194 (x0 := (2 : Int32)) (x1 := p6) hB rfl k10 d_1022_15 (Nat.le_of_ble_eq_true rfl) h (fun v12 S11 h => ?_)
    obtain ⟨k13, h⟩ := h
    exact zu_iret d_1022_18 zr_1022 (zs_b_n k13) h
/-! SchemaPascal$Machine.put(IJI)V -/
theorem zm_1023 {σ : Nat → Nat} {n0 : Nat} {bf : ab_B} : ab_code (zx σ n0 bf).1 1023 = prog_5_method_23_code := rfl
theorem zq_1023 {σ : Nat → Nat} {n0 : Nat} {bf : ab_B} : ab_maxL (zx σ n0 bf).1 1023 = 5 := rfl
theorem zr_1023 {σ : Nat → Nat} {n0 : Nat} {bf : ab_B} : ab_ret (zx σ n0 bf).1 1023 = (Option.none : Option Jvm.ClassFile.FieldType) := rfl
theorem d_1023_0 {σ : Nat → Nat} {n0 : Nat} {bf : ab_B} : decode (ab_code (zx σ n0 bf).1 1023) 0 = .ok (.aload_n 0, 1) := zd zm_1023 (by decide +kernel)
theorem d_1023_1 {σ : Nat → Nat} {n0 : Nat} {bf : ab_B} : decode (ab_code (zx σ n0 bf).1 1023) 1 = .ok (.getfield 10, 3) := zd zm_1023 (by decide +kernel)
theorem d_1023_4 {σ : Nat → Nat} {n0 : Nat} {bf : ab_B} : decode (ab_code (zx σ n0 bf).1 1023) 4 = .ok (.iload_n 1, 1) := zd zm_1023 (by decide +kernel)
theorem d_1023_5 {σ : Nat → Nat} {n0 : Nat} {bf : ab_B} : decode (ab_code (zx σ n0 bf).1 1023) 5 = .ok (.lload_n 2, 1) := zd zm_1023 (by decide +kernel)
theorem d_1023_6 {σ : Nat → Nat} {n0 : Nat} {bf : ab_B} : decode (ab_code (zx σ n0 bf).1 1023) 6 = .ok (.lastore, 1) := zd zm_1023 (by decide +kernel)
theorem d_1023_7 {σ : Nat → Nat} {n0 : Nat} {bf : ab_B} : decode (ab_code (zx σ n0 bf).1 1023) 7 = .ok (.aload_n 0, 1) := zd zm_1023 (by decide +kernel)
theorem d_1023_8 {σ : Nat → Nat} {n0 : Nat} {bf : ab_B} : decode (ab_code (zx σ n0 bf).1 1023) 8 = .ok (.getfield 21, 3) := zd zm_1023 (by decide +kernel)
theorem d_1023_11 {σ : Nat → Nat} {n0 : Nat} {bf : ab_B} : decode (ab_code (zx σ n0 bf).1 1023) 11 = .ok (.iload_n 1, 1) := zd zm_1023 (by decide +kernel)
theorem d_1023_12 {σ : Nat → Nat} {n0 : Nat} {bf : ab_B} : decode (ab_code (zx σ n0 bf).1 1023) 12 = .ok (.iload 4, 2) := zd zm_1023 (by decide +kernel)
theorem d_1023_14 {σ : Nat → Nat} {n0 : Nat} {bf : ab_B} : decode (ab_code (zx σ n0 bf).1 1023) 14 = .ok (.iastore, 1) := zd zm_1023 (by decide +kernel)
theorem d_1023_15 {σ : Nat → Nat} {n0 : Nat} {bf : ab_B} : decode (ab_code (zx σ n0 bf).1 1023) 15 = .ok (.aload_n 0, 1) := zd zm_1023 (by decide +kernel)
theorem d_1023_16 {σ : Nat → Nat} {n0 : Nat} {bf : ab_B} : decode (ab_code (zx σ n0 bf).1 1023) 16 = .ok (.getfield 17, 3) := zd zm_1023 (by decide +kernel)
theorem d_1023_19 {σ : Nat → Nat} {n0 : Nat} {bf : ab_B} : decode (ab_code (zx σ n0 bf).1 1023) 19 = .ok (.iload_n 1, 1) := zd zm_1023 (by decide +kernel)
theorem d_1023_20 {σ : Nat → Nat} {n0 : Nat} {bf : ab_B} : decode (ab_code (zx σ n0 bf).1 1023) 20 = .ok (.iconst 1, 1) := zd zm_1023 (by decide +kernel)
theorem d_1023_21 {σ : Nat → Nat} {n0 : Nat} {bf : ab_B} : decode (ab_code (zx σ n0 bf).1 1023) 21 = .ok (.bastore, 1) := zd zm_1023 (by decide +kernel)
theorem d_1023_22 {σ : Nat → Nat} {n0 : Nat} {bf : ab_B} : decode (ab_code (zx σ n0 bf).1 1023) 22 = .ok (.return_, 1) := zd zm_1023 (by decide +kernel)
def w_X2_put (X : zs_X) (d : Nat) (p0 : Nat) (p1 : Int32) (p2 : Int64) (p4 : Int32) (S : zs_T) (Q : zs_Q) : Prop :=
  (zs_K S p0 = some (.inl 1) ∧ ∃ b2, (zs_R S 1001 p0) = some b2 ∧ zs_A S b2 3 p1 ∧ ab_n0 X.1 ≤ b2 ∧ ∀ S6, S6 = zs_sj S b2 p1.toNatClampNeg p2 → ∃ b9, (zs_R S6 1003 p0) = some b9 ∧ zs_A S b9 0 p1 ∧ ab_n0 X.1 ≤ b9 ∧ ∀ S13, S13 = zs_si S6 b9 p1.toNatClampNeg p4 → ∃ b16, (zs_R S13 1002 p0) = some b16 ∧ zs_A S b16 2 p1 ∧ ab_n0 X.1 ≤ b16 ∧ ∀ S20, S20 = zs_si S13 b16 p1.toNatClampNeg (vp_nar .boolean (1 : Int32)) → Q (.returned none) S20)
theorem u_X2_put {σ : Nat → Nat} {n0 : Nat} {bf : ab_B} {d : Nat} {p0 : Nat} {p1 : Int32} {p2 : Int64} {p4 : Int32} {S : zs_T} {Q : zs_Q} (hB : zt_B bf) (hd : 1 ≤ d) (h : w_X2_put (zx σ n0 bf) (d - 1) p0 p1 p2 p4 S Q) : zs_C (zx σ n0 bf) d 1023 [.ref p0, .int p1, .long p2, .int p4] S Q := by
  have hL : lv_args 0 [.ref p0, .int p1, .long p2, .int p4] = [(0, .ref p0), (1, .int p1), (2, .long p2), (4, .int p4)] := rfl
  refine zs_C.of1 (hB.2 1023 (by decide) (by decide)) hd (by rw [hL]; exact zs_sub_self _ (by exact ⟨rfl, rfl, rfl, rfl, trivial⟩)) ?_
  rw [hL]
  clear hL
  unfold w_X2_put at h
  refine zu_aload_n d_1023_0 rfl (zs_ra _) ?_
  obtain ⟨k1, h⟩ := h
  refine zg_1_10 rfl d_1023_1 k1 ?_
  refine zu_iload_n d_1023_4 rfl ?_
  refine zu_lload_n d_1023_5 rfl ?_
  obtain ⟨b2, e3, h⟩ := h
  refine zs_stk2 (zs_rfe e3) ?_
  obtain ⟨k4, h⟩ := h
  obtain ⟨k5, h⟩ := h
  refine zu_last (k := 3) d_1023_6 rfl rfl k5 k4 ?_
  generalize e7 : zs_sj S b2 p1.toNatClampNeg p2 = S6
  have h := h S6 e7.symm
  have K8 : ∀ b, zs_K S6 b = zs_K S b := zs_Kt e7 (zs_Ksj _ _ _ _) (fun _ => rfl)
  refine zu_aload_n d_1023_7 rfl (zs_ra _) ?_
  refine zg_1_21 rfl d_1023_8 ((K8 _).trans k1) ?_
  refine zu_iload_n d_1023_11 rfl ?_
  refine zu_iload d_1023_12 rfl ?_
  obtain ⟨b9, e10, h⟩ := h
  refine zs_stk2 (zs_rfe e10) ?_
  obtain ⟨k11, h⟩ := h
  obtain ⟨k12, h⟩ := h
  refine zu_iast (k := 0) d_1023_14 rfl rfl k12 (zs_Ak K8 k11) ?_
  generalize e14 : zs_si S6 b9 p1.toNatClampNeg p4 = S13
  have h := h S13 e14.symm
  have K15 : ∀ b, zs_K S13 b = zs_K S b := zs_Kt e14 (zs_Ksi _ _ _ _) K8
  refine zu_aload_n d_1023_15 rfl (zs_ra _) ?_
  refine zg_1_17 rfl d_1023_16 ((K15 _).trans k1) ?_
  refine zu_iload_n d_1023_19 rfl ?_
  refine zu_iconst d_1023_20 zi_1 ?_
  obtain ⟨b16, e17, h⟩ := h
  refine zs_stk2 (zs_rfe e17) ?_
  obtain ⟨k18, h⟩ := h
  obtain ⟨k19, h⟩ := h
  refine zu_bast_bool (k := 2) d_1023_21 rfl rfl k19 (zs_Ak K15 k18) ?_
  generalize e21 : zs_si S13 b16 p1.toNatClampNeg (vp_nar .boolean (1 : Int32)) = S20
  have h := h S20 e21.symm
  have K22 : ∀ b, zs_K S20 b = zs_K S b := zs_Kt e21 (zs_Ksi _ _ _ _) K15
  exact zu_vret d_1023_22 zr_1023 h
/-! SchemaPascal$Machine.storeText(IILSchemaPascal$Type;I)Z -/
theorem zm_1024 {σ : Nat → Nat} {n0 : Nat} {bf : ab_B} : ab_code (zx σ n0 bf).1 1024 = prog_5_method_25_code := rfl
theorem zq_1024 {σ : Nat → Nat} {n0 : Nat} {bf : ab_B} : ab_maxL (zx σ n0 bf).1 1024 = 7 := rfl
theorem zr_1024 {σ : Nat → Nat} {n0 : Nat} {bf : ab_B} : ab_ret (zx σ n0 bf).1 1024 = (Option.some Jvm.ClassFile.FieldType.boolean) := rfl
theorem d_1024_0 {σ : Nat → Nat} {n0 : Nat} {bf : ab_B} : decode (ab_code (zx σ n0 bf).1 1024) 0 = .ok (.aload_n 0, 1) := zd zm_1024 (by decide +kernel)
theorem d_1024_1 {σ : Nat → Nat} {n0 : Nat} {bf : ab_B} : decode (ab_code (zx σ n0 bf).1 1024) 1 = .ok (.dup, 1) := zd zm_1024 (by decide +kernel)
theorem d_1024_2 {σ : Nat → Nat} {n0 : Nat} {bf : ab_B} : decode (ab_code (zx σ n0 bf).1 1024) 2 = .ok (.getfield 114, 3) := zd zm_1024 (by decide +kernel)
theorem d_1024_5 {σ : Nat → Nat} {n0 : Nat} {bf : ab_B} : decode (ab_code (zx σ n0 bf).1 1024) 5 = .ok (.iconst 1, 1) := zd zm_1024 (by decide +kernel)
theorem d_1024_6 {σ : Nat → Nat} {n0 : Nat} {bf : ab_B} : decode (ab_code (zx σ n0 bf).1 1024) 6 = .ok (.isub, 1) := zd zm_1024 (by decide +kernel)
theorem d_1024_7 {σ : Nat → Nat} {n0 : Nat} {bf : ab_B} : decode (ab_code (zx σ n0 bf).1 1024) 7 = .ok (.putfield 114, 3) := zd zm_1024 (by decide +kernel)
theorem d_1024_10 {σ : Nat → Nat} {n0 : Nat} {bf : ab_B} : decode (ab_code (zx σ n0 bf).1 1024) 10 = .ok (.aload_n 0, 1) := zd zm_1024 (by decide +kernel)
theorem d_1024_11 {σ : Nat → Nat} {n0 : Nat} {bf : ab_B} : decode (ab_code (zx σ n0 bf).1 1024) 11 = .ok (.getfield 117, 3) := zd zm_1024 (by decide +kernel)
theorem d_1024_14 {σ : Nat → Nat} {n0 : Nat} {bf : ab_B} : decode (ab_code (zx σ n0 bf).1 1024) 14 = .ok (.aload_n 0, 1) := zd zm_1024 (by decide +kernel)
theorem d_1024_15 {σ : Nat → Nat} {n0 : Nat} {bf : ab_B} : decode (ab_code (zx σ n0 bf).1 1024) 15 = .ok (.getfield 46, 3) := zd zm_1024 (by decide +kernel)
theorem d_1024_18 {σ : Nat → Nat} {n0 : Nat} {bf : ab_B} : decode (ab_code (zx σ n0 bf).1 1024) 18 = .ok (.aload_n 0, 1) := zd zm_1024 (by decide +kernel)
theorem d_1024_19 {σ : Nat → Nat} {n0 : Nat} {bf : ab_B} : decode (ab_code (zx σ n0 bf).1 1024) 19 = .ok (.getfield 114, 3) := zd zm_1024 (by decide +kernel)
theorem d_1024_22 {σ : Nat → Nat} {n0 : Nat} {bf : ab_B} : decode (ab_code (zx σ n0 bf).1 1024) 22 = .ok (.iaload, 1) := zd zm_1024 (by decide +kernel)
theorem d_1024_23 {σ : Nat → Nat} {n0 : Nat} {bf : ab_B} : decode (ab_code (zx σ n0 bf).1 1024) 23 = .ok (.isub, 1) := zd zm_1024 (by decide +kernel)
theorem d_1024_24 {σ : Nat → Nat} {n0 : Nat} {bf : ab_B} : decode (ab_code (zx σ n0 bf).1 1024) 24 = .ok (.istore 5, 2) := zd zm_1024 (by decide +kernel)
theorem d_1024_26 {σ : Nat → Nat} {n0 : Nat} {bf : ab_B} : decode (ab_code (zx σ n0 bf).1 1024) 26 = .ok (.iload 5, 2) := zd zm_1024 (by decide +kernel)
theorem d_1024_28 {σ : Nat → Nat} {n0 : Nat} {bf : ab_B} : decode (ab_code (zx σ n0 bf).1 1024) 28 = .ok (.i2l, 1) := zd zm_1024 (by decide +kernel)
theorem d_1024_29 {σ : Nat → Nat} {n0 : Nat} {bf : ab_B} : decode (ab_code (zx σ n0 bf).1 1024) 29 = .ok (.aload_n 0, 1) := zd zm_1024 (by decide +kernel)
theorem d_1024_30 {σ : Nat → Nat} {n0 : Nat} {bf : ab_B} : decode (ab_code (zx σ n0 bf).1 1024) 30 = .ok (.getfield 31, 3) := zd zm_1024 (by decide +kernel)
theorem d_1024_33 {σ : Nat → Nat} {n0 : Nat} {bf : ab_B} : decode (ab_code (zx σ n0 bf).1 1024) 33 = .ok (.aload_n 3, 1) := zd zm_1024 (by decide +kernel)
theorem d_1024_34 {σ : Nat → Nat} {n0 : Nat} {bf : ab_B} : decode (ab_code (zx σ n0 bf).1 1024) 34 = .ok (.getfield 366, 3) := zd zm_1024 (by decide +kernel)
theorem d_1024_37 {σ : Nat → Nat} {n0 : Nat} {bf : ab_B} : decode (ab_code (zx σ n0 bf).1 1024) 37 = .ok (.iload_n 2, 1) := zd zm_1024 (by decide +kernel)
theorem d_1024_38 {σ : Nat → Nat} {n0 : Nat} {bf : ab_B} : decode (ab_code (zx σ n0 bf).1 1024) 38 = .ok (.invokevirtual 369, 3) := zd zm_1024 (by decide +kernel)
theorem d_1024_41 {σ : Nat → Nat} {n0 : Nat} {bf : ab_B} : decode (ab_code (zx σ n0 bf).1 1024) 41 = .ok (.lcmp, 1) := zd zm_1024 (by decide +kernel)
theorem d_1024_42 {σ : Nat → Nat} {n0 : Nat} {bf : ab_B} : decode (ab_code (zx σ n0 bf).1 1024) 42 = .ok (.ifCond .le 11, 3) := zd zm_1024 (by decide +kernel)
theorem d_1024_45 {σ : Nat → Nat} {n0 : Nat} {bf : ab_B} : decode (ab_code (zx σ n0 bf).1 1024) 45 = .ok (.aload_n 0, 1) := zd zm_1024 (by decide +kernel)
theorem d_1024_46 {σ : Nat → Nat} {n0 : Nat} {bf : ab_B} : decode (ab_code (zx σ n0 bf).1 1024) 46 = .ok (.iconst 2, 1) := zd zm_1024 (by decide +kernel)
theorem d_1024_47 {σ : Nat → Nat} {n0 : Nat} {bf : ab_B} : decode (ab_code (zx σ n0 bf).1 1024) 47 = .ok (.iload 4, 2) := zd zm_1024 (by decide +kernel)
theorem d_1024_49 {σ : Nat → Nat} {n0 : Nat} {bf : ab_B} : decode (ab_code (zx σ n0 bf).1 1024) 49 = .ok (.invokevirtual 194, 3) := zd zm_1024 (by decide +kernel)
theorem d_1024_52 {σ : Nat → Nat} {n0 : Nat} {bf : ab_B} : decode (ab_code (zx σ n0 bf).1 1024) 52 = .ok (.ireturn, 1) := zd zm_1024 (by decide +kernel)
theorem d_1024_53 {σ : Nat → Nat} {n0 : Nat} {bf : ab_B} : decode (ab_code (zx σ n0 bf).1 1024) 53 = .ok (.aload_n 0, 1) := zd zm_1024 (by decide +kernel)
theorem d_1024_54 {σ : Nat → Nat} {n0 : Nat} {bf : ab_B} : decode (ab_code (zx σ n0 bf).1 1024) 54 = .ok (.iload_n 1, 1) := zd zm_1024 (by decide +kernel)
theorem d_1024_55 {σ : Nat → Nat} {n0 : Nat} {bf : ab_B} : decode (ab_code (zx σ n0 bf).1 1024) 55 = .ok (.iload 5, 2) := zd zm_1024 (by decide +kernel)
theorem d_1024_57 {σ : Nat → Nat} {n0 : Nat} {bf : ab_B} : decode (ab_code (zx σ n0 bf).1 1024) 57 = .ok (.i2l, 1) := zd zm_1024 (by decide +kernel)
theorem d_1024_58 {σ : Nat → Nat} {n0 : Nat} {bf : ab_B} : decode (ab_code (zx σ n0 bf).1 1024) 58 = .ok (.ldc_w 365, 3) := zd zm_1024 (by decide +kernel)
theorem d_1024_61 {σ : Nat → Nat} {n0 : Nat} {bf : ab_B} : decode (ab_code (zx σ n0 bf).1 1024) 61 = .ok (.invokevirtual 385, 3) := zd zm_1024 (by decide +kernel)
theorem d_1024_64 {σ : Nat → Nat} {n0 : Nat} {bf : ab_B} : decode (ab_code (zx σ n0 bf).1 1024) 64 = .ok (.iconst 0, 1) := zd zm_1024 (by decide +kernel)
theorem d_1024_65 {σ : Nat → Nat} {n0 : Nat} {bf : ab_B} : decode (ab_code (zx σ n0 bf).1 1024) 65 = .ok (.istore 6, 2) := zd zm_1024 (by decide +kernel)
theorem d_1024_67 {σ : Nat → Nat} {n0 : Nat} {bf : ab_B} : decode (ab_code (zx σ n0 bf).1 1024) 67 = .ok (.iload 6, 2) := zd zm_1024 (by decide +kernel)
theorem d_1024_69 {σ : Nat → Nat} {n0 : Nat} {bf : ab_B} : decode (ab_code (zx σ n0 bf).1 1024) 69 = .ok (.iload 5, 2) := zd zm_1024 (by decide +kernel)
theorem d_1024_71 {σ : Nat → Nat} {n0 : Nat} {bf : ab_B} : decode (ab_code (zx σ n0 bf).1 1024) 71 = .ok (.if_icmp .ge 44, 3) := zd zm_1024 (by decide +kernel)
theorem d_1024_74 {σ : Nat → Nat} {n0 : Nat} {bf : ab_B} : decode (ab_code (zx σ n0 bf).1 1024) 74 = .ok (.aload_n 0, 1) := zd zm_1024 (by decide +kernel)
theorem d_1024_75 {σ : Nat → Nat} {n0 : Nat} {bf : ab_B} : decode (ab_code (zx σ n0 bf).1 1024) 75 = .ok (.iload_n 1, 1) := zd zm_1024 (by decide +kernel)
theorem d_1024_76 {σ : Nat → Nat} {n0 : Nat} {bf : ab_B} : decode (ab_code (zx σ n0 bf).1 1024) 76 = .ok (.iconst 1, 1) := zd zm_1024 (by decide +kernel)
theorem d_1024_77 {σ : Nat → Nat} {n0 : Nat} {bf : ab_B} : decode (ab_code (zx σ n0 bf).1 1024) 77 = .ok (.iadd, 1) := zd zm_1024 (by decide +kernel)
theorem d_1024_78 {σ : Nat → Nat} {n0 : Nat} {bf : ab_B} : decode (ab_code (zx σ n0 bf).1 1024) 78 = .ok (.iload 6, 2) := zd zm_1024 (by decide +kernel)
theorem d_1024_80 {σ : Nat → Nat} {n0 : Nat} {bf : ab_B} : decode (ab_code (zx σ n0 bf).1 1024) 80 = .ok (.iadd, 1) := zd zm_1024 (by decide +kernel)
theorem d_1024_81 {σ : Nat → Nat} {n0 : Nat} {bf : ab_B} : decode (ab_code (zx σ n0 bf).1 1024) 81 = .ok (.aload_n 0, 1) := zd zm_1024 (by decide +kernel)
theorem d_1024_82 {σ : Nat → Nat} {n0 : Nat} {bf : ab_B} : decode (ab_code (zx σ n0 bf).1 1024) 82 = .ok (.getfield 42, 3) := zd zm_1024 (by decide +kernel)
theorem d_1024_85 {σ : Nat → Nat} {n0 : Nat} {bf : ab_B} : decode (ab_code (zx σ n0 bf).1 1024) 85 = .ok (.aload_n 0, 1) := zd zm_1024 (by decide +kernel)
theorem d_1024_86 {σ : Nat → Nat} {n0 : Nat} {bf : ab_B} : decode (ab_code (zx σ n0 bf).1 1024) 86 = .ok (.getfield 46, 3) := zd zm_1024 (by decide +kernel)
theorem d_1024_89 {σ : Nat → Nat} {n0 : Nat} {bf : ab_B} : decode (ab_code (zx σ n0 bf).1 1024) 89 = .ok (.aload_n 0, 1) := zd zm_1024 (by decide +kernel)
theorem d_1024_90 {σ : Nat → Nat} {n0 : Nat} {bf : ab_B} : decode (ab_code (zx σ n0 bf).1 1024) 90 = .ok (.getfield 114, 3) := zd zm_1024 (by decide +kernel)
theorem d_1024_93 {σ : Nat → Nat} {n0 : Nat} {bf : ab_B} : decode (ab_code (zx σ n0 bf).1 1024) 93 = .ok (.iaload, 1) := zd zm_1024 (by decide +kernel)
theorem d_1024_94 {σ : Nat → Nat} {n0 : Nat} {bf : ab_B} : decode (ab_code (zx σ n0 bf).1 1024) 94 = .ok (.iload 6, 2) := zd zm_1024 (by decide +kernel)
theorem d_1024_96 {σ : Nat → Nat} {n0 : Nat} {bf : ab_B} : decode (ab_code (zx σ n0 bf).1 1024) 96 = .ok (.iadd, 1) := zd zm_1024 (by decide +kernel)
theorem d_1024_97 {σ : Nat → Nat} {n0 : Nat} {bf : ab_B} : decode (ab_code (zx σ n0 bf).1 1024) 97 = .ok (.baload, 1) := zd zm_1024 (by decide +kernel)
theorem d_1024_98 {σ : Nat → Nat} {n0 : Nat} {bf : ab_B} : decode (ab_code (zx σ n0 bf).1 1024) 98 = .ok (.sipush 255, 3) := zd zm_1024 (by decide +kernel)
theorem d_1024_101 {σ : Nat → Nat} {n0 : Nat} {bf : ab_B} : decode (ab_code (zx σ n0 bf).1 1024) 101 = .ok (.iand, 1) := zd zm_1024 (by decide +kernel)
theorem d_1024_102 {σ : Nat → Nat} {n0 : Nat} {bf : ab_B} : decode (ab_code (zx σ n0 bf).1 1024) 102 = .ok (.i2l, 1) := zd zm_1024 (by decide +kernel)
theorem d_1024_103 {σ : Nat → Nat} {n0 : Nat} {bf : ab_B} : decode (ab_code (zx σ n0 bf).1 1024) 103 = .ok (.ldc_w 373, 3) := zd zm_1024 (by decide +kernel)
theorem d_1024_106 {σ : Nat → Nat} {n0 : Nat} {bf : ab_B} : decode (ab_code (zx σ n0 bf).1 1024) 106 = .ok (.invokevirtual 385, 3) := zd zm_1024 (by decide +kernel)
theorem d_1024_109 {σ : Nat → Nat} {n0 : Nat} {bf : ab_B} : decode (ab_code (zx σ n0 bf).1 1024) 109 = .ok (.iinc 6 1, 3) := zd zm_1024 (by decide +kernel)
theorem d_1024_112 {σ : Nat → Nat} {n0 : Nat} {bf : ab_B} : decode (ab_code (zx σ n0 bf).1 1024) 112 = .ok (.goto (-45), 3) := zd zm_1024 (by decide +kernel)
theorem d_1024_115 {σ : Nat → Nat} {n0 : Nat} {bf : ab_B} : decode (ab_code (zx σ n0 bf).1 1024) 115 = .ok (.iload 5, 2) := zd zm_1024 (by decide +kernel)
theorem d_1024_117 {σ : Nat → Nat} {n0 : Nat} {bf : ab_B} : decode (ab_code (zx σ n0 bf).1 1024) 117 = .ok (.istore 6, 2) := zd zm_1024 (by decide +kernel)
theorem d_1024_119 {σ : Nat → Nat} {n0 : Nat} {bf : ab_B} : decode (ab_code (zx σ n0 bf).1 1024) 119 = .ok (.iload 6, 2) := zd zm_1024 (by decide +kernel)
theorem d_1024_121 {σ : Nat → Nat} {n0 : Nat} {bf : ab_B} : decode (ab_code (zx σ n0 bf).1 1024) 121 = .ok (.i2l, 1) := zd zm_1024 (by decide +kernel)
theorem d_1024_122 {σ : Nat → Nat} {n0 : Nat} {bf : ab_B} : decode (ab_code (zx σ n0 bf).1 1024) 122 = .ok (.aload_n 0, 1) := zd zm_1024 (by decide +kernel)
theorem d_1024_123 {σ : Nat → Nat} {n0 : Nat} {bf : ab_B} : decode (ab_code (zx σ n0 bf).1 1024) 123 = .ok (.getfield 31, 3) := zd zm_1024 (by decide +kernel)
theorem d_1024_126 {σ : Nat → Nat} {n0 : Nat} {bf : ab_B} : decode (ab_code (zx σ n0 bf).1 1024) 126 = .ok (.aload_n 3, 1) := zd zm_1024 (by decide +kernel)
theorem d_1024_127 {σ : Nat → Nat} {n0 : Nat} {bf : ab_B} : decode (ab_code (zx σ n0 bf).1 1024) 127 = .ok (.getfield 366, 3) := zd zm_1024 (by decide +kernel)
theorem d_1024_130 {σ : Nat → Nat} {n0 : Nat} {bf : ab_B} : decode (ab_code (zx σ n0 bf).1 1024) 130 = .ok (.iload_n 2, 1) := zd zm_1024 (by decide +kernel)
theorem d_1024_131 {σ : Nat → Nat} {n0 : Nat} {bf : ab_B} : decode (ab_code (zx σ n0 bf).1 1024) 131 = .ok (.invokevirtual 369, 3) := zd zm_1024 (by decide +kernel)
theorem d_1024_134 {σ : Nat → Nat} {n0 : Nat} {bf : ab_B} : decode (ab_code (zx σ n0 bf).1 1024) 134 = .ok (.lcmp, 1) := zd zm_1024 (by decide +kernel)
theorem d_1024_135 {σ : Nat → Nat} {n0 : Nat} {bf : ab_B} : decode (ab_code (zx σ n0 bf).1 1024) 135 = .ok (.ifCond .ge 21, 3) := zd zm_1024 (by decide +kernel)
theorem d_1024_138 {σ : Nat → Nat} {n0 : Nat} {bf : ab_B} : decode (ab_code (zx σ n0 bf).1 1024) 138 = .ok (.aload_n 0, 1) := zd zm_1024 (by decide +kernel)
theorem d_1024_139 {σ : Nat → Nat} {n0 : Nat} {bf : ab_B} : decode (ab_code (zx σ n0 bf).1 1024) 139 = .ok (.getfield 17, 3) := zd zm_1024 (by decide +kernel)
theorem d_1024_142 {σ : Nat → Nat} {n0 : Nat} {bf : ab_B} : decode (ab_code (zx σ n0 bf).1 1024) 142 = .ok (.iload_n 1, 1) := zd zm_1024 (by decide +kernel)
theorem d_1024_143 {σ : Nat → Nat} {n0 : Nat} {bf : ab_B} : decode (ab_code (zx σ n0 bf).1 1024) 143 = .ok (.iconst 1, 1) := zd zm_1024 (by decide +kernel)
theorem d_1024_144 {σ : Nat → Nat} {n0 : Nat} {bf : ab_B} : decode (ab_code (zx σ n0 bf).1 1024) 144 = .ok (.iadd, 1) := zd zm_1024 (by decide +kernel)
theorem d_1024_145 {σ : Nat → Nat} {n0 : Nat} {bf : ab_B} : decode (ab_code (zx σ n0 bf).1 1024) 145 = .ok (.iload 6, 2) := zd zm_1024 (by decide +kernel)
theorem d_1024_147 {σ : Nat → Nat} {n0 : Nat} {bf : ab_B} : decode (ab_code (zx σ n0 bf).1 1024) 147 = .ok (.iadd, 1) := zd zm_1024 (by decide +kernel)
theorem d_1024_148 {σ : Nat → Nat} {n0 : Nat} {bf : ab_B} : decode (ab_code (zx σ n0 bf).1 1024) 148 = .ok (.iconst 0, 1) := zd zm_1024 (by decide +kernel)
theorem d_1024_149 {σ : Nat → Nat} {n0 : Nat} {bf : ab_B} : decode (ab_code (zx σ n0 bf).1 1024) 149 = .ok (.bastore, 1) := zd zm_1024 (by decide +kernel)
theorem d_1024_150 {σ : Nat → Nat} {n0 : Nat} {bf : ab_B} : decode (ab_code (zx σ n0 bf).1 1024) 150 = .ok (.iinc 6 1, 3) := zd zm_1024 (by decide +kernel)
theorem d_1024_153 {σ : Nat → Nat} {n0 : Nat} {bf : ab_B} : decode (ab_code (zx σ n0 bf).1 1024) 153 = .ok (.goto (-34), 3) := zd zm_1024 (by decide +kernel)
theorem d_1024_156 {σ : Nat → Nat} {n0 : Nat} {bf : ab_B} : decode (ab_code (zx σ n0 bf).1 1024) 156 = .ok (.aload_n 0, 1) := zd zm_1024 (by decide +kernel)
theorem d_1024_157 {σ : Nat → Nat} {n0 : Nat} {bf : ab_B} : decode (ab_code (zx σ n0 bf).1 1024) 157 = .ok (.aload_n 0, 1) := zd zm_1024 (by decide +kernel)
theorem d_1024_158 {σ : Nat → Nat} {n0 : Nat} {bf : ab_B} : decode (ab_code (zx σ n0 bf).1 1024) 158 = .ok (.getfield 46, 3) := zd zm_1024 (by decide +kernel)
theorem d_1024_161 {σ : Nat → Nat} {n0 : Nat} {bf : ab_B} : decode (ab_code (zx σ n0 bf).1 1024) 161 = .ok (.aload_n 0, 1) := zd zm_1024 (by decide +kernel)
theorem d_1024_162 {σ : Nat → Nat} {n0 : Nat} {bf : ab_B} : decode (ab_code (zx σ n0 bf).1 1024) 162 = .ok (.getfield 114, 3) := zd zm_1024 (by decide +kernel)
theorem d_1024_165 {σ : Nat → Nat} {n0 : Nat} {bf : ab_B} : decode (ab_code (zx σ n0 bf).1 1024) 165 = .ok (.iaload, 1) := zd zm_1024 (by decide +kernel)
theorem d_1024_166 {σ : Nat → Nat} {n0 : Nat} {bf : ab_B} : decode (ab_code (zx σ n0 bf).1 1024) 166 = .ok (.putfield 117, 3) := zd zm_1024 (by decide +kernel)
theorem d_1024_169 {σ : Nat → Nat} {n0 : Nat} {bf : ab_B} : decode (ab_code (zx σ n0 bf).1 1024) 169 = .ok (.iconst 1, 1) := zd zm_1024 (by decide +kernel)
theorem d_1024_170 {σ : Nat → Nat} {n0 : Nat} {bf : ab_B} : decode (ab_code (zx σ n0 bf).1 1024) 170 = .ok (.ireturn, 1) := zd zm_1024 (by decide +kernel)
def w_X2_storeText_45 (X : zs_X) (d : Nat) (p0 : Nat) (p4 : Int32) (S : zs_T) (Q : zs_Q) : Prop :=
  (zs_K S p0 = some (.inl 1) ∧ zs_C X d 1004 [.ref p0, .int (2 : Int32), .int p4] S (zs_kI (fun v3 S2 => (zs_b v3 ∧ Q (.returned (some (.int v3))) S2)) Q))
theorem u_X2_storeText_45 {σ : Nat → Nat} {n0 : Nat} {bf : ab_B} {d : Nat} {p0 : Nat} {p4 : Int32} {S : zs_T} {Q : zs_Q} (hB : zt_B bf) (h : w_X2_storeText_45 (zx σ n0 bf) d p0 p4 S Q) : zs_U (zx σ n0 bf) d 1024 45 [(0, .ref p0), (4, .int p4)] [] S Q := by
  unfold w_X2_storeText_45 at h
  refine zu_aload_n d_1024_45 rfl (zs_ra _) ?_
  refine zu_iconst d_1024_46 zi_2 ?_
  refine zu_iload d_1024_47 rfl ?_
  obtain ⟨k1, h⟩ := h
  refine zc_1_194 (x0 := (2 : Int32)) (x1 := p4) hB rfl k1 d_1024_49 (Nat.le_of_ble_eq_true rfl) h (fun v3 S2 h => ?_)
  obtain ⟨k4, h⟩ := h
  exact zu_iret d_1024_52 zr_1024 (zs_b_n k4) h
def w_X2_storeText_53 (X : zs_X) (d : Nat) (p0 : Nat) (p1 : Int32) (p2 : Int32) (p3 : Option Nat) (p5 : Int32) (S : zs_T) (Q : zs_Q) : Prop :=
  (zs_K S p0 = some (.inl 1) ∧ zs_C X d 1023 [.ref p0, .int p1, .long ((p5).toInt64), .int (3000000 : Int32)] S (zs_kV (fun S2 => (zs_U X d 1024 67 [(0, .ref p0), (1, .int p1), (2, .int p2), (3, va_rf p3), (5, .int p5), (6, .int (0 : Int32))] [] S2 Q)) Q))
theorem u_X2_storeText_53 {σ : Nat → Nat} {n0 : Nat} {bf : ab_B} {d : Nat} {p0 : Nat} {p1 : Int32} {p2 : Int32} {p3 : Option Nat} {p5 : Int32} {S : zs_T} {Q : zs_Q} (hB : zt_B bf) (h : w_X2_storeText_53 (zx σ n0 bf) d p0 p1 p2 p3 p5 S Q) : zs_U (zx σ n0 bf) d 1024 53 [(0, .ref p0), (1, .int p1), (2, .int p2), (3, va_rf p3), (5, .int p5)] [] S Q := by
  unfold w_X2_storeText_53 at h
  refine zu_aload_n d_1024_53 rfl (zs_ra _) ?_
  refine zu_iload_n d_1024_54 rfl ?_
  refine zu_iload d_1024_55 rfl ?_
  refine zu_stk d_1024_57 rfl rfl ?_
  refine zlw_1_365 rfl d_1024_58 ?_
  obtain ⟨k1, h⟩ := h
  refine zc_1_385 (x0 := p1) (x1 := ((p5).toInt64)) (x2 := (3000000 : Int32)) hB rfl k1 d_1024_61 (Nat.le_of_ble_eq_true rfl) h (fun S2 h => ?_)
  refine zu_iconst d_1024_64 zi_0 ?_
  refine zu_istore d_1024_65 (zs_lt zq_1024 rfl) ?_
  exact h.weak ⟨rfl, rfl, rfl, rfl, rfl, rfl, trivial⟩
def w_X2_storeText_109 (X : zs_X) (d : Nat) (p0 : Nat) (p1 : Int32) (p2 : Int32) (p3 : Option Nat) (p5 : Int32) (p6 : Int32) (S : zs_T) (Q : zs_Q) : Prop :=
  (zs_U X d 1024 67 [(0, .ref p0), (1, .int p1), (2, .int p2), (3, va_rf p3), (5, .int p5), (6, .int (p6 + (1 : Int32)))] [] S Q)
theorem u_X2_storeText_109 {σ : Nat → Nat} {n0 : Nat} {bf : ab_B} {d : Nat} {p0 : Nat} {p1 : Int32} {p2 : Int32} {p3 : Option Nat} {p5 : Int32} {p6 : Int32} {S : zs_T} {Q : zs_Q} (hB : zt_B bf) (h : w_X2_storeText_109 (zx σ n0 bf) d p0 p1 p2 p3 p5 p6 S Q) : zs_U (zx σ n0 bf) d 1024 109 [(0, .ref p0), (1, .int p1), (2, .int p2), (3, va_rf p3), (5, .int p5), (6, .int p6)] [] S Q := by
  unfold w_X2_storeText_109 at h
  refine zu_iinc d_1024_109 rfl zi_1 (zs_lt zq_1024 rfl) ?_
  refine zu_goto (t := 67) d_1024_112 rfl ?_
  exact h.weak ⟨rfl, rfl, rfl, rfl, rfl, rfl, trivial⟩
def w_X2_storeText_67 (X : zs_X) (d : Nat) (p0 : Nat) (p1 : Int32) (p2 : Int32) (p3 : Option Nat) (p5 : Int32) (p6 : Int32) (S : zs_T) (Q : zs_Q) : Prop :=
  (((p5 ≤ p6 → (zs_U X d 1024 119 [(0, .ref p0), (1, .int p1), (2, .int p2), (3, va_rf p3), (6, .int p5)] [] S Q)) ∧ (¬ (p5 ≤ p6) → (zs_K S p0 = some (.inl 1) ∧ ∃ b3, (zs_R S 1009 p0) = some b3 ∧ zs_A S b3 0 (zs_I S 1010 p0) ∧ ∃ b6, (zs_R S 1008 p0) = some b6 ∧ zs_A S b6 1 ((zs_i S b3 (zs_I S 1010 p0).toNatClampNeg) + p6) ∧ zs_C X d 1023 [.ref p0, .int ((p1 + (1 : Int32)) + p6), .long ((((zs_i S b6 ((zs_i S b3 (zs_I S 1010 p0).toNatClampNeg) + p6).toNatClampNeg) &&& (255 : Int32))).toInt64), .int (3000001 : Int32)] S (zs_kV (fun S9 => w_X2_storeText_109 X d p0 p1 p2 p3 p5 p6 S9 Q) Q)))))
theorem u_X2_storeText_67 {σ : Nat → Nat} {n0 : Nat} {bf : ab_B} {d : Nat} {p0 : Nat} {p1 : Int32} {p2 : Int32} {p3 : Option Nat} {p5 : Int32} {p6 : Int32} {S : zs_T} {Q : zs_Q} (hB : zt_B bf) (h : w_X2_storeText_67 (zx σ n0 bf) d p0 p1 p2 p3 p5 p6 S Q) : zs_U (zx σ n0 bf) d 1024 67 [(0, .ref p0), (1, .int p1), (2, .int p2), (3, va_rf p3), (5, .int p5), (6, .int p6)] [] S Q := by
  unfold w_X2_storeText_67 at h
  refine zu_iload d_1024_67 rfl ?_
  refine zu_iload d_1024_69 rfl ?_
  refine zu_cmpge (t := 115) d_1024_71 rfl (fun c1 => ?_) (fun c1 => ?_)
  · have h := h.1 c1
    refine zu_iload d_1024_115 rfl ?_
    refine zu_istore d_1024_117 (zs_lt zq_1024 rfl) ?_
    exact h.weak ⟨rfl, rfl, rfl, rfl, rfl, trivial⟩
  · have h := h.2 c1
    refine zu_aload_n d_1024_74 rfl (zs_ra _) ?_
    refine zu_iload_n d_1024_75 rfl ?_
    refine zu_iconst d_1024_76 zi_1 ?_
    refine zu_stk d_1024_77 rfl rfl ?_
    refine zu_iload d_1024_78 rfl ?_
    refine zu_stk d_1024_80 rfl rfl ?_
    refine zu_aload_n d_1024_81 rfl (zs_ra _) ?_
    obtain ⟨k2, h⟩ := h
    refine zg_1_42 rfl d_1024_82 k2 ?_
    refine zu_aload_n d_1024_85 rfl (zs_ra _) ?_
    refine zg_1_46 rfl d_1024_86 k2 ?_
    refine zu_aload_n d_1024_89 rfl (zs_ra _) ?_
    refine zg_1_114 rfl d_1024_90 k2 ?_
    obtain ⟨b3, e4, h⟩ := h
    refine zs_stk1 (zs_rfe e4) ?_
    obtain ⟨k5, h⟩ := h
    refine zu_iald (k := 0) d_1024_93 rfl rfl k5 ?_
    refine zu_iload d_1024_94 rfl ?_
    refine zu_stk d_1024_96 rfl rfl ?_
    obtain ⟨b6, e7, h⟩ := h
    refine zs_stk1 (zs_rfe e7) ?_
    obtain ⟨k8, h⟩ := h
    refine zu_bald (k := 1) d_1024_97 rfl (Or.inl rfl) k8 ?_
    refine zu_sipush d_1024_98 zh_255 ?_
    refine zu_stk d_1024_101 rfl rfl ?_
    refine zu_stk d_1024_102 rfl rfl ?_
    refine zlw_1_373 rfl d_1024_103 ?_
    refine zc_1_385 (x0 := ((p1 + (1 : Int32)) + p6)) (x1 := ((((zs_i S b6 ((zs_i S b3 (zs_I S 1010 p0).toNatClampNeg) + p6).toNatClampNeg) &&& (255 : Int32))).toInt64)) (x2 := (3000001 : Int32)) hB rfl k2 d_1024_106 (Nat.le_of_ble_eq_true rfl) h (fun S9 h => ?_)
    exact (u_X2_storeText_109 hB h).weak ⟨rfl, rfl, rfl, rfl, rfl, rfl, trivial⟩
def w_X2_storeText_169 (X : zs_X) (d : Nat)  (S : zs_T) (Q : zs_Q) : Prop :=
  (Q (.returned (some (.int (1 : Int32)))) S)
theorem u_X2_storeText_169 {σ : Nat → Nat} {n0 : Nat} {bf : ab_B} {d : Nat}  {S : zs_T} {Q : zs_Q} (hB : zt_B bf) (h : w_X2_storeText_169 (zx σ n0 bf) d  S Q) : zs_U (zx σ n0 bf) d 1024 169 [] [] S Q := by
  unfold w_X2_storeText_169 at h
  refine zu_iconst d_1024_169 zi_1 ?_
  exact zu_iret d_1024_170 zr_1024 (zs_b_n (Or.inr rfl)) h
def w_X2_storeText_150 (X : zs_X) (d : Nat) (p0 : Nat) (p1 : Int32) (p2 : Int32) (p3 : Option Nat) (p6 : Int32) (S : zs_T) (Q : zs_Q) : Prop :=
  (zs_U X d 1024 119 [(0, .ref p0), (1, .int p1), (2, .int p2), (3, va_rf p3), (6, .int (p6 + (1 : Int32)))] [] S Q)
theorem u_X2_storeText_150 {σ : Nat → Nat} {n0 : Nat} {bf : ab_B} {d : Nat} {p0 : Nat} {p1 : Int32} {p2 : Int32} {p3 : Option Nat} {p6 : Int32} {S : zs_T} {Q : zs_Q} (hB : zt_B bf) (h : w_X2_storeText_150 (zx σ n0 bf) d p0 p1 p2 p3 p6 S Q) : zs_U (zx σ n0 bf) d 1024 150 [(0, .ref p0), (1, .int p1), (2, .int p2), (3, va_rf p3), (6, .int p6)] [] S Q := by
  unfold w_X2_storeText_150 at h
  refine zu_iinc d_1024_150 rfl zi_1 (zs_lt zq_1024 rfl) ?_
  refine zu_goto (t := 119) d_1024_153 rfl ?_
  exact h.weak ⟨rfl, rfl, rfl, rfl, rfl, trivial⟩
def w_X2_storeText_119 (X : zs_X) (d : Nat) (p0 : Nat) (p1 : Int32) (p2 : Int32) (p3 : Option Nat) (p6 : Int32) (S : zs_T) (Q : zs_Q) : Prop :=
  (zs_K S p0 = some (.inl 1) ∧ ∃ b2, p3 = some b2 ∧ zs_K S b2 = some (.inl 6) ∧ ∃ b5, (zs_R S 1004 p0) = some b5 ∧ zs_K S b5 = some (.inl 2) ∧ zs_C X d 2001 [.ref b5, va_rf (zs_R S 6004 b2), .int p2] S (zs_kJ (fun v9 S8 => (((v9 ≤ ((p6).toInt64) → (zs_K S8 p0 = some (.inl 1) ∧ ∃ b12, (zs_R S8 1009 p0) = some b12 ∧ zs_A S8 b12 0 (zs_I S8 1010 p0) ∧ ab_n0 X.1 ≤ p0 ∧ ∀ S16, S16 = zs_sI S8 1011 p0 (zs_i S8 b12 (zs_I S8 1010 p0).toNatClampNeg) → w_X2_storeText_169 X d  S16 Q)) ∧ (¬ (v9 ≤ ((p6).toInt64)) → (zs_K S8 p0 = some (.inl 1) ∧ ∃ b20, (zs_R S8 1002 p0) = some b20 ∧ zs_A S8 b20 2 ((p1 + (1 : Int32)) + p6) ∧ ab_n0 X.1 ≤ b20 ∧ ∀ S24, S24 = zs_si S8 b20 ((p1 + (1 : Int32)) + p6).toNatClampNeg (vp_nar .boolean (0 : Int32)) → w_X2_storeText_150 X d p0 p1 p2 p3 p6 S24 Q))))) Q))
theorem u_X2_storeText_119 {σ : Nat → Nat} {n0 : Nat} {bf : ab_B} {d : Nat} {p0 : Nat} {p1 : Int32} {p2 : Int32} {p3 : Option Nat} {p6 : Int32} {S : zs_T} {Q : zs_Q} (hB : zt_B bf) (h : w_X2_storeText_119 (zx σ n0 bf) d p0 p1 p2 p3 p6 S Q) : zs_U (zx σ n0 bf) d 1024 119 [(0, .ref p0), (1, .int p1), (2, .int p2), (3, va_rf p3), (6, .int p6)] [] S Q := by
  unfold w_X2_storeText_119 at h
  refine zu_iload d_1024_119 rfl ?_
  refine zu_stk d_1024_121 rfl rfl ?_
  refine zu_aload_n d_1024_122 rfl (zs_ra _) ?_
  obtain ⟨k1, h⟩ := h
  refine zg_1_31 rfl d_1024_123 k1 ?_
  refine zu_aload_n d_1024_126 rfl (zs_rr _) ?_
  obtain ⟨b2, e3, h⟩ := h
  refine zs_stk0 (zs_rfe e3) ?_
  obtain ⟨k4, h⟩ := h
  refine zg_1_366 rfl d_1024_127 k4 ?_
  refine zu_iload_n d_1024_130 rfl ?_
  obtain ⟨b5, e6, h⟩ := h
  refine zs_stk2 (zs_rfe e6) ?_
  obtain ⟨k7, h⟩ := h
  refine zc_1_369 (x0 := (zs_R S 6004 b2)) (x1 := p2) hB rfl k7 d_1024_131 (Nat.le_of_ble_eq_true rfl) h (fun v9 S8 h => ?_)
  refine zu_lge (t := 156) d_1024_134 d_1024_135 rfl (fun c10 => ?_) (fun c10 => ?_)
  · have h := h.1 c10
    refine zu_aload_n d_1024_156 rfl (zs_ra _) ?_
    refine zu_aload_n d_1024_157 rfl (zs_ra _) ?_
    obtain ⟨k11, h⟩ := h
    refine zg_1_46 rfl d_1024_158 k11 ?_
    refine zu_aload_n d_1024_161 rfl (zs_ra _) ?_
    refine zg_1_114 rfl d_1024_162 k11 ?_
    obtain ⟨b12, e13, h⟩ := h
    refine zs_stk1 (zs_rfe e13) ?_
    obtain ⟨k14, h⟩ := h
    refine zu_iald (k := 0) d_1024_165 rfl rfl k14 ?_
    obtain ⟨k15, h⟩ := h
    refine zp_1_117 (v := (zs_i S8 b12 (zs_I S8 1010 p0).toNatClampNeg)) rfl d_1024_166 k11 k15 ?_
    generalize e17 : zs_sI S8 1011 p0 (zs_i S8 b12 (zs_I S8 1010 p0).toNatClampNeg) = S16
    have h := h S16 e17.symm
    have K18 : ∀ b, zs_K S16 b = zs_K S8 b := zs_Kt e17 (zs_KsI _ _ _ _) (fun _ => rfl)
    exact (u_X2_storeText_169 hB h).weak trivial
  · have h := h.2 c10
    refine zu_aload_n d_1024_138 rfl (zs_ra _) ?_
    obtain ⟨k19, h⟩ := h
    refine zg_1_17 rfl d_1024_139 k19 ?_
    refine zu_iload_n d_1024_142 rfl ?_
    refine zu_iconst d_1024_143 zi_1 ?_
    refine zu_stk d_1024_144 rfl rfl ?_
    refine zu_iload d_1024_145 rfl ?_
    refine zu_stk d_1024_147 rfl rfl ?_
    refine zu_iconst d_1024_148 zi_0 ?_
    obtain ⟨b20, e21, h⟩ := h
    refine zs_stk2 (zs_rfe e21) ?_
    obtain ⟨k22, h⟩ := h
    obtain ⟨k23, h⟩ := h
    refine zu_bast_bool (k := 2) d_1024_149 rfl rfl k23 k22 ?_
    generalize e25 : zs_si S8 b20 ((p1 + (1 : Int32)) + p6).toNatClampNeg (vp_nar .boolean (0 : Int32)) = S24
    have h := h S24 e25.symm
    have K26 : ∀ b, zs_K S24 b = zs_K S8 b := zs_Kt e25 (zs_Ksi _ _ _ _) (fun _ => rfl)
    exact (u_X2_storeText_150 hB h).weak ⟨rfl, rfl, rfl, rfl, rfl, trivial⟩
def w_X2_storeText (X : zs_X) (d : Nat) (p0 : Nat) (p1 : Int32) (p2 : Int32) (p3 : Option Nat) (p4 : Int32) (S : zs_T) (Q : zs_Q) : Prop :=
  (zs_K S p0 = some (.inl 1) ∧ ab_n0 X.1 ≤ p0 ∧ ∀ S3, S3 = zs_sI S 1010 p0 ((zs_I S 1010 p0) - (1 : Int32)) → ∃ b6, (zs_R S3 1009 p0) = some b6 ∧ zs_A S b6 0 (zs_I S3 1010 p0) ∧ ∃ b9, p3 = some b9 ∧ zs_K S b9 = some (.inl 6) ∧ ∃ b12, (zs_R S3 1004 p0) = some b12 ∧ zs_K S b12 = some (.inl 2) ∧ zs_C X d 2001 [.ref b12, va_rf (zs_R S3 6004 b9), .int p2] S3 (zs_kJ (fun v16 S15 => (((((((zs_I S3 1011 p0) - (zs_i S3 b6 (zs_I S3 1010 p0).toNatClampNeg))).toInt64) ≤ v16 → w_X2_storeText_53 X d p0 p1 p2 p3 ((zs_I S3 1011 p0) - (zs_i S3 b6 (zs_I S3 1010 p0).toNatClampNeg)) S15 Q) ∧ (¬ (((((zs_I S3 1011 p0) - (zs_i S3 b6 (zs_I S3 1010 p0).toNatClampNeg))).toInt64) ≤ v16) → w_X2_storeText_45 X d p0 p4 S15 Q)))) Q))
theorem u_X2_storeText {σ : Nat → Nat} {n0 : Nat} {bf : ab_B} {d : Nat} {p0 : Nat} {p1 : Int32} {p2 : Int32} {p3 : Option Nat} {p4 : Int32} {S : zs_T} {Q : zs_Q} (hB : zt_B bf) (hd : 1 ≤ d) (h : w_X2_storeText (zx σ n0 bf) (d - 1) p0 p1 p2 p3 p4 S Q) : zs_C (zx σ n0 bf) d 1024 [.ref p0, .int p1, .int p2, va_rf p3, .int p4] S Q := by
  have hL : lv_args 0 [.ref p0, .int p1, .int p2, va_rf p3, .int p4] = [(0, .ref p0), (1, .int p1), (2, .int p2), (3, va_rf p3), (4, .int p4)] := by simp [lv_args, zs_cat, zs_cI, zs_cJ, zs_cA]
  refine zs_C.of1 (hB.2 1024 (by decide) (by decide)) hd (by rw [hL]; exact zs_sub_self _ (by exact ⟨rfl, rfl, rfl, rfl, rfl, trivial⟩)) ?_
  rw [hL]
  clear hL
  unfold w_X2_storeText at h
  refine zu_aload_n d_1024_0 rfl (zs_ra _) ?_
  refine zu_dup d_1024_1 rfl ?_
  obtain ⟨k1, h⟩ := h
  refine zg_1_114 rfl d_1024_2 k1 ?_
  refine zu_iconst d_1024_5 zi_1 ?_
  refine zu_stk d_1024_6 rfl rfl ?_
  obtain ⟨k2, h⟩ := h
  refine zp_1_114 (v := ((zs_I S 1010 p0) - (1 : Int32))) rfl d_1024_7 k1 k2 ?_
  generalize e4 : zs_sI S 1010 p0 ((zs_I S 1010 p0) - (1 : Int32)) = S3
  have h := h S3 e4.symm
  have K5 : ∀ b, zs_K S3 b = zs_K S b := zs_Kt e4 (zs_KsI _ _ _ _) (fun _ => rfl)
  refine zu_aload_n d_1024_10 rfl (zs_ra _) ?_
  refine zg_1_117 rfl d_1024_11 ((K5 _).trans k1) ?_
  refine zu_aload_n d_1024_14 rfl (zs_ra _) ?_
  refine zg_1_46 rfl d_1024_15 ((K5 _).trans k1) ?_
  refine zu_aload_n d_1024_18 rfl (zs_ra _) ?_
  refine zg_1_114 rfl d_1024_19 ((K5 _).trans k1) ?_
  obtain ⟨b6, e7, h⟩ := h
  refine zs_stk1 (zs_rfe e7) ?_
  obtain ⟨k8, h⟩ := h
  refine zu_iald (k := 0) d_1024_22 rfl rfl (zs_Ak K5 k8) ?_
  refine zu_stk d_1024_23 rfl rfl ?_
  refine zu_istore d_1024_24 (zs_lt zq_1024 rfl) ?_
  refine zu_iload d_1024_26 rfl ?_
  refine zu_stk d_1024_28 rfl rfl ?_
  refine zu_aload_n d_1024_29 rfl (zs_ra _) ?_
  refine zg_1_31 rfl d_1024_30 ((K5 _).trans k1) ?_
  refine zu_aload_n d_1024_33 rfl (zs_rr _) ?_
  obtain ⟨b9, e10, h⟩ := h
  refine zs_stk0 (zs_rfe e10) ?_
  obtain ⟨k11, h⟩ := h
  refine zg_1_366 rfl d_1024_34 ((K5 _).trans k11) ?_
  refine zu_iload_n d_1024_37 rfl ?_
  obtain ⟨b12, e13, h⟩ := h
  refine zs_stk2 (zs_rfe e13) ?_
  obtain ⟨k14, h⟩ := h
  refine zc_1_369 (x0 := (zs_R S3 6004 b9)) (x1 := p2) hB rfl ((K5 _).trans k14) d_1024_38 (Nat.le_of_ble_eq_true rfl) h (fun v16 S15 h => ?_)
  refine zu_lle (t := 53) d_1024_41 d_1024_42 rfl (fun c17 => ?_) (fun c17 => ?_)
  · have h := h.1 c17
    exact (u_X2_storeText_53 hB h).weak ⟨rfl, rfl, rfl, rfl, rfl, trivial⟩
  · have h := h.2 c17
    exact (u_X2_storeText_45 hB h).weak ⟨rfl, rfl, trivial⟩
/-! SchemaPascal$Machine.storeTag(LSchemaPascal$Type;LSchemaPascal$Part;I)V -/
theorem zm_1025 {σ : Nat → Nat} {n0 : Nat} {bf : ab_B} : ab_code (zx σ n0 bf).1 1025 = prog_5_method_27_code := rfl
theorem zq_1025 {σ : Nat → Nat} {n0 : Nat} {bf : ab_B} : ab_maxL (zx σ n0 bf).1 1025 = 13 := rfl
theorem zr_1025 {σ : Nat → Nat} {n0 : Nat} {bf : ab_B} : ab_ret (zx σ n0 bf).1 1025 = (Option.none : Option Jvm.ClassFile.FieldType) := rfl
theorem d_1025_0 {σ : Nat → Nat} {n0 : Nat} {bf : ab_B} : decode (ab_code (zx σ n0 bf).1 1025) 0 = .ok (.aload_n 0, 1) := zd zm_1025 (by decide +kernel)
theorem d_1025_1 {σ : Nat → Nat} {n0 : Nat} {bf : ab_B} : decode (ab_code (zx σ n0 bf).1 1025) 1 = .ok (.getfield 36, 3) := zd zm_1025 (by decide +kernel)
theorem d_1025_4 {σ : Nat → Nat} {n0 : Nat} {bf : ab_B} : decode (ab_code (zx σ n0 bf).1 1025) 4 = .ok (.aload_n 0, 1) := zd zm_1025 (by decide +kernel)
theorem d_1025_5 {σ : Nat → Nat} {n0 : Nat} {bf : ab_B} : decode (ab_code (zx σ n0 bf).1 1025) 5 = .ok (.getfield 111, 3) := zd zm_1025 (by decide +kernel)
theorem d_1025_8 {σ : Nat → Nat} {n0 : Nat} {bf : ab_B} : decode (ab_code (zx σ n0 bf).1 1025) 8 = .ok (.laload, 1) := zd zm_1025 (by decide +kernel)
theorem d_1025_9 {σ : Nat → Nat} {n0 : Nat} {bf : ab_B} : decode (ab_code (zx σ n0 bf).1 1025) 9 = .ok (.l2i, 1) := zd zm_1025 (by decide +kernel)
theorem d_1025_10 {σ : Nat → Nat} {n0 : Nat} {bf : ab_B} : decode (ab_code (zx σ n0 bf).1 1025) 10 = .ok (.istore 4, 2) := zd zm_1025 (by decide +kernel)
theorem d_1025_12 {σ : Nat → Nat} {n0 : Nat} {bf : ab_B} : decode (ab_code (zx σ n0 bf).1 1025) 12 = .ok (.aload_n 0, 1) := zd zm_1025 (by decide +kernel)
theorem d_1025_13 {σ : Nat → Nat} {n0 : Nat} {bf : ab_B} : decode (ab_code (zx σ n0 bf).1 1025) 13 = .ok (.getfield 39, 3) := zd zm_1025 (by decide +kernel)
theorem d_1025_16 {σ : Nat → Nat} {n0 : Nat} {bf : ab_B} : decode (ab_code (zx σ n0 bf).1 1025) 16 = .ok (.aload_n 0, 1) := zd zm_1025 (by decide +kernel)
theorem d_1025_17 {σ : Nat → Nat} {n0 : Nat} {bf : ab_B} : decode (ab_code (zx σ n0 bf).1 1025) 17 = .ok (.getfield 111, 3) := zd zm_1025 (by decide +kernel)
theorem d_1025_20 {σ : Nat → Nat} {n0 : Nat} {bf : ab_B} : decode (ab_code (zx σ n0 bf).1 1025) 20 = .ok (.iaload, 1) := zd zm_1025 (by decide +kernel)
theorem d_1025_21 {σ : Nat → Nat} {n0 : Nat} {bf : ab_B} : decode (ab_code (zx σ n0 bf).1 1025) 21 = .ok (.istore 5, 2) := zd zm_1025 (by decide +kernel)
theorem d_1025_23 {σ : Nat → Nat} {n0 : Nat} {bf : ab_B} : decode (ab_code (zx σ n0 bf).1 1025) 23 = .ok (.aload_n 0, 1) := zd zm_1025 (by decide +kernel)
theorem d_1025_24 {σ : Nat → Nat} {n0 : Nat} {bf : ab_B} : decode (ab_code (zx σ n0 bf).1 1025) 24 = .ok (.iload 4, 2) := zd zm_1025 (by decide +kernel)
theorem d_1025_26 {σ : Nat → Nat} {n0 : Nat} {bf : ab_B} : decode (ab_code (zx σ n0 bf).1 1025) 26 = .ok (.iload 5, 2) := zd zm_1025 (by decide +kernel)
theorem d_1025_28 {σ : Nat → Nat} {n0 : Nat} {bf : ab_B} : decode (ab_code (zx σ n0 bf).1 1025) 28 = .ok (.aload_n 1, 1) := zd zm_1025 (by decide +kernel)
theorem d_1025_29 {σ : Nat → Nat} {n0 : Nat} {bf : ab_B} : decode (ab_code (zx σ n0 bf).1 1025) 29 = .ok (.invokevirtual 265, 3) := zd zm_1025 (by decide +kernel)
theorem d_1025_32 {σ : Nat → Nat} {n0 : Nat} {bf : ab_B} : decode (ab_code (zx σ n0 bf).1 1025) 32 = .ok (.istore 6, 2) := zd zm_1025 (by decide +kernel)
theorem d_1025_34 {σ : Nat → Nat} {n0 : Nat} {bf : ab_B} : decode (ab_code (zx σ n0 bf).1 1025) 34 = .ok (.iload 6, 2) := zd zm_1025 (by decide +kernel)
theorem d_1025_36 {σ : Nat → Nat} {n0 : Nat} {bf : ab_B} : decode (ab_code (zx σ n0 bf).1 1025) 36 = .ok (.ifCond .eq 17, 3) := zd zm_1025 (by decide +kernel)
theorem d_1025_39 {σ : Nat → Nat} {n0 : Nat} {bf : ab_B} : decode (ab_code (zx σ n0 bf).1 1025) 39 = .ok (.aload_n 2, 1) := zd zm_1025 (by decide +kernel)
theorem d_1025_40 {σ : Nat → Nat} {n0 : Nat} {bf : ab_B} : decode (ab_code (zx σ n0 bf).1 1025) 40 = .ok (.aload_n 0, 1) := zd zm_1025 (by decide +kernel)
theorem d_1025_41 {σ : Nat → Nat} {n0 : Nat} {bf : ab_B} : decode (ab_code (zx σ n0 bf).1 1025) 41 = .ok (.getfield 10, 3) := zd zm_1025 (by decide +kernel)
theorem d_1025_44 {σ : Nat → Nat} {n0 : Nat} {bf : ab_B} : decode (ab_code (zx σ n0 bf).1 1025) 44 = .ok (.iload 4, 2) := zd zm_1025 (by decide +kernel)
theorem d_1025_46 {σ : Nat → Nat} {n0 : Nat} {bf : ab_B} : decode (ab_code (zx σ n0 bf).1 1025) 46 = .ok (.laload, 1) := zd zm_1025 (by decide +kernel)
theorem d_1025_47 {σ : Nat → Nat} {n0 : Nat} {bf : ab_B} : decode (ab_code (zx σ n0 bf).1 1025) 47 = .ok (.invokevirtual 396, 3) := zd zm_1025 (by decide +kernel)
theorem d_1025_50 {σ : Nat → Nat} {n0 : Nat} {bf : ab_B} : decode (ab_code (zx σ n0 bf).1 1025) 50 = .ok (.goto 4, 3) := zd zm_1025 (by decide +kernel)
theorem d_1025_53 {σ : Nat → Nat} {n0 : Nat} {bf : ab_B} : decode (ab_code (zx σ n0 bf).1 1025) 53 = .ok (.aconst_null, 1) := zd zm_1025 (by decide +kernel)
theorem d_1025_54 {σ : Nat → Nat} {n0 : Nat} {bf : ab_B} : decode (ab_code (zx σ n0 bf).1 1025) 54 = .ok (.astore 7, 2) := zd zm_1025 (by decide +kernel)
theorem d_1025_56 {σ : Nat → Nat} {n0 : Nat} {bf : ab_B} : decode (ab_code (zx σ n0 bf).1 1025) 56 = .ok (.aload_n 0, 1) := zd zm_1025 (by decide +kernel)
theorem d_1025_57 {σ : Nat → Nat} {n0 : Nat} {bf : ab_B} : decode (ab_code (zx σ n0 bf).1 1025) 57 = .ok (.getfield 36, 3) := zd zm_1025 (by decide +kernel)
theorem d_1025_60 {σ : Nat → Nat} {n0 : Nat} {bf : ab_B} : decode (ab_code (zx σ n0 bf).1 1025) 60 = .ok (.aload_n 0, 1) := zd zm_1025 (by decide +kernel)
theorem d_1025_61 {σ : Nat → Nat} {n0 : Nat} {bf : ab_B} : decode (ab_code (zx σ n0 bf).1 1025) 61 = .ok (.getfield 111, 3) := zd zm_1025 (by decide +kernel)
theorem d_1025_64 {σ : Nat → Nat} {n0 : Nat} {bf : ab_B} : decode (ab_code (zx σ n0 bf).1 1025) 64 = .ok (.iconst 1, 1) := zd zm_1025 (by decide +kernel)
theorem d_1025_65 {σ : Nat → Nat} {n0 : Nat} {bf : ab_B} : decode (ab_code (zx σ n0 bf).1 1025) 65 = .ok (.iadd, 1) := zd zm_1025 (by decide +kernel)
theorem d_1025_66 {σ : Nat → Nat} {n0 : Nat} {bf : ab_B} : decode (ab_code (zx σ n0 bf).1 1025) 66 = .ok (.laload, 1) := zd zm_1025 (by decide +kernel)
theorem d_1025_67 {σ : Nat → Nat} {n0 : Nat} {bf : ab_B} : decode (ab_code (zx σ n0 bf).1 1025) 67 = .ok (.lstore 8, 2) := zd zm_1025 (by decide +kernel)
theorem d_1025_69 {σ : Nat → Nat} {n0 : Nat} {bf : ab_B} : decode (ab_code (zx σ n0 bf).1 1025) 69 = .ok (.aload_n 0, 1) := zd zm_1025 (by decide +kernel)
theorem d_1025_70 {σ : Nat → Nat} {n0 : Nat} {bf : ab_B} : decode (ab_code (zx σ n0 bf).1 1025) 70 = .ok (.iload 4, 2) := zd zm_1025 (by decide +kernel)
theorem d_1025_72 {σ : Nat → Nat} {n0 : Nat} {bf : ab_B} : decode (ab_code (zx σ n0 bf).1 1025) 72 = .ok (.iload 5, 2) := zd zm_1025 (by decide +kernel)
theorem d_1025_74 {σ : Nat → Nat} {n0 : Nat} {bf : ab_B} : decode (ab_code (zx σ n0 bf).1 1025) 74 = .ok (.aload_n 1, 1) := zd zm_1025 (by decide +kernel)
theorem d_1025_75 {σ : Nat → Nat} {n0 : Nat} {bf : ab_B} : decode (ab_code (zx σ n0 bf).1 1025) 75 = .ok (.lload 8, 2) := zd zm_1025 (by decide +kernel)
theorem d_1025_77 {σ : Nat → Nat} {n0 : Nat} {bf : ab_B} : decode (ab_code (zx σ n0 bf).1 1025) 77 = .ok (.iload_n 3, 1) := zd zm_1025 (by decide +kernel)
theorem d_1025_78 {σ : Nat → Nat} {n0 : Nat} {bf : ab_B} : decode (ab_code (zx σ n0 bf).1 1025) 78 = .ok (.invokevirtual 273, 3) := zd zm_1025 (by decide +kernel)
theorem d_1025_81 {σ : Nat → Nat} {n0 : Nat} {bf : ab_B} : decode (ab_code (zx σ n0 bf).1 1025) 81 = .ok (.ifCond .ne 4, 3) := zd zm_1025 (by decide +kernel)
theorem d_1025_84 {σ : Nat → Nat} {n0 : Nat} {bf : ab_B} : decode (ab_code (zx σ n0 bf).1 1025) 84 = .ok (.return_, 1) := zd zm_1025 (by decide +kernel)
theorem d_1025_85 {σ : Nat → Nat} {n0 : Nat} {bf : ab_B} : decode (ab_code (zx σ n0 bf).1 1025) 85 = .ok (.iload 6, 2) := zd zm_1025 (by decide +kernel)
theorem d_1025_87 {σ : Nat → Nat} {n0 : Nat} {bf : ab_B} : decode (ab_code (zx σ n0 bf).1 1025) 87 = .ok (.ifCond .eq 15, 3) := zd zm_1025 (by decide +kernel)
theorem d_1025_90 {σ : Nat → Nat} {n0 : Nat} {bf : ab_B} : decode (ab_code (zx σ n0 bf).1 1025) 90 = .ok (.aload 7, 2) := zd zm_1025 (by decide +kernel)
theorem d_1025_92 {σ : Nat → Nat} {n0 : Nat} {bf : ab_B} : decode (ab_code (zx σ n0 bf).1 1025) 92 = .ok (.aload_n 2, 1) := zd zm_1025 (by decide +kernel)
theorem d_1025_93 {σ : Nat → Nat} {n0 : Nat} {bf : ab_B} : decode (ab_code (zx σ n0 bf).1 1025) 93 = .ok (.lload 8, 2) := zd zm_1025 (by decide +kernel)
theorem d_1025_95 {σ : Nat → Nat} {n0 : Nat} {bf : ab_B} : decode (ab_code (zx σ n0 bf).1 1025) 95 = .ok (.invokevirtual 396, 3) := zd zm_1025 (by decide +kernel)
theorem d_1025_98 {σ : Nat → Nat} {n0 : Nat} {bf : ab_B} : decode (ab_code (zx σ n0 bf).1 1025) 98 = .ok (.if_acmp .ne 4, 3) := zd zm_1025 (by decide +kernel)
theorem d_1025_101 {σ : Nat → Nat} {n0 : Nat} {bf : ab_B} : decode (ab_code (zx σ n0 bf).1 1025) 101 = .ok (.return_, 1) := zd zm_1025 (by decide +kernel)
theorem d_1025_102 {σ : Nat → Nat} {n0 : Nat} {bf : ab_B} : decode (ab_code (zx σ n0 bf).1 1025) 102 = .ok (.aload_n 0, 1) := zd zm_1025 (by decide +kernel)
theorem d_1025_103 {σ : Nat → Nat} {n0 : Nat} {bf : ab_B} : decode (ab_code (zx σ n0 bf).1 1025) 103 = .ok (.getfield 31, 3) := zd zm_1025 (by decide +kernel)
theorem d_1025_106 {σ : Nat → Nat} {n0 : Nat} {bf : ab_B} : decode (ab_code (zx σ n0 bf).1 1025) 106 = .ok (.aload_n 2, 1) := zd zm_1025 (by decide +kernel)
theorem d_1025_107 {σ : Nat → Nat} {n0 : Nat} {bf : ab_B} : decode (ab_code (zx σ n0 bf).1 1025) 107 = .ok (.iload 5, 2) := zd zm_1025 (by decide +kernel)
theorem d_1025_109 {σ : Nat → Nat} {n0 : Nat} {bf : ab_B} : decode (ab_code (zx σ n0 bf).1 1025) 109 = .ok (.invokevirtual 400, 3) := zd zm_1025 (by decide +kernel)
theorem d_1025_112 {σ : Nat → Nat} {n0 : Nat} {bf : ab_B} : decode (ab_code (zx σ n0 bf).1 1025) 112 = .ok (.lstore 10, 2) := zd zm_1025 (by decide +kernel)
theorem d_1025_114 {σ : Nat → Nat} {n0 : Nat} {bf : ab_B} : decode (ab_code (zx σ n0 bf).1 1025) 114 = .ok (.iconst 1, 1) := zd zm_1025 (by decide +kernel)
theorem d_1025_115 {σ : Nat → Nat} {n0 : Nat} {bf : ab_B} : decode (ab_code (zx σ n0 bf).1 1025) 115 = .ok (.istore 12, 2) := zd zm_1025 (by decide +kernel)
theorem d_1025_117 {σ : Nat → Nat} {n0 : Nat} {bf : ab_B} : decode (ab_code (zx σ n0 bf).1 1025) 117 = .ok (.iload 12, 2) := zd zm_1025 (by decide +kernel)
theorem d_1025_119 {σ : Nat → Nat} {n0 : Nat} {bf : ab_B} : decode (ab_code (zx σ n0 bf).1 1025) 119 = .ok (.i2l, 1) := zd zm_1025 (by decide +kernel)
theorem d_1025_120 {σ : Nat → Nat} {n0 : Nat} {bf : ab_B} : decode (ab_code (zx σ n0 bf).1 1025) 120 = .ok (.lload 10, 2) := zd zm_1025 (by decide +kernel)
theorem d_1025_122 {σ : Nat → Nat} {n0 : Nat} {bf : ab_B} : decode (ab_code (zx σ n0 bf).1 1025) 122 = .ok (.lcmp, 1) := zd zm_1025 (by decide +kernel)
theorem d_1025_123 {σ : Nat → Nat} {n0 : Nat} {bf : ab_B} : decode (ab_code (zx σ n0 bf).1 1025) 123 = .ok (.ifCond .gt 20, 3) := zd zm_1025 (by decide +kernel)
theorem d_1025_126 {σ : Nat → Nat} {n0 : Nat} {bf : ab_B} : decode (ab_code (zx σ n0 bf).1 1025) 126 = .ok (.aload_n 0, 1) := zd zm_1025 (by decide +kernel)
theorem d_1025_127 {σ : Nat → Nat} {n0 : Nat} {bf : ab_B} : decode (ab_code (zx σ n0 bf).1 1025) 127 = .ok (.getfield 17, 3) := zd zm_1025 (by decide +kernel)
theorem d_1025_130 {σ : Nat → Nat} {n0 : Nat} {bf : ab_B} : decode (ab_code (zx σ n0 bf).1 1025) 130 = .ok (.iload 4, 2) := zd zm_1025 (by decide +kernel)
theorem d_1025_132 {σ : Nat → Nat} {n0 : Nat} {bf : ab_B} : decode (ab_code (zx σ n0 bf).1 1025) 132 = .ok (.iload 12, 2) := zd zm_1025 (by decide +kernel)
theorem d_1025_134 {σ : Nat → Nat} {n0 : Nat} {bf : ab_B} : decode (ab_code (zx σ n0 bf).1 1025) 134 = .ok (.iadd, 1) := zd zm_1025 (by decide +kernel)
theorem d_1025_135 {σ : Nat → Nat} {n0 : Nat} {bf : ab_B} : decode (ab_code (zx σ n0 bf).1 1025) 135 = .ok (.iconst 0, 1) := zd zm_1025 (by decide +kernel)
theorem d_1025_136 {σ : Nat → Nat} {n0 : Nat} {bf : ab_B} : decode (ab_code (zx σ n0 bf).1 1025) 136 = .ok (.bastore, 1) := zd zm_1025 (by decide +kernel)
theorem d_1025_137 {σ : Nat → Nat} {n0 : Nat} {bf : ab_B} : decode (ab_code (zx σ n0 bf).1 1025) 137 = .ok (.iinc 12 1, 3) := zd zm_1025 (by decide +kernel)
theorem d_1025_140 {σ : Nat → Nat} {n0 : Nat} {bf : ab_B} : decode (ab_code (zx σ n0 bf).1 1025) 140 = .ok (.goto (-23), 3) := zd zm_1025 (by decide +kernel)
theorem d_1025_143 {σ : Nat → Nat} {n0 : Nat} {bf : ab_B} : decode (ab_code (zx σ n0 bf).1 1025) 143 = .ok (.return_, 1) := zd zm_1025 (by decide +kernel)
def w_X2_storeTag_102 (X : zs_X) (d : Nat) (p0 : Nat) (p2 : Option Nat) (p4 : Int32) (p5 : Int32) (S : zs_T) (Q : zs_Q) : Prop :=
  (zs_K S p0 = some (.inl 1) ∧ ∃ b2, (zs_R S 1004 p0) = some b2 ∧ zs_K S b2 = some (.inl 2) ∧ zs_C X d 2014 [.ref b2, va_rf p2, .int p5] S (zs_kJ (fun v6 S5 => (zs_U X d 1025 117 [(0, .ref p0), (4, .int p4), (10, .long v6), (12, .int (1 : Int32))] [] S5 Q)) Q))
theorem u_X2_storeTag_102 {σ : Nat → Nat} {n0 : Nat} {bf : ab_B} {d : Nat} {p0 : Nat} {p2 : Option Nat} {p4 : Int32} {p5 : Int32} {S : zs_T} {Q : zs_Q} (hB : zt_B bf) (h : w_X2_storeTag_102 (zx σ n0 bf) d p0 p2 p4 p5 S Q) : zs_U (zx σ n0 bf) d 1025 102 [(0, .ref p0), (2, va_rf p2), (4, .int p4), (5, .int p5)] [] S Q := by
  unfold w_X2_storeTag_102 at h
  refine zu_aload_n d_1025_102 rfl (zs_ra _) ?_
  obtain ⟨k1, h⟩ := h
  refine zg_1_31 rfl d_1025_103 k1 ?_
  refine zu_aload_n d_1025_106 rfl (zs_rr _) ?_
  refine zu_iload d_1025_107 rfl ?_
  obtain ⟨b2, e3, h⟩ := h
  refine zs_stk2 (zs_rfe e3) ?_
  obtain ⟨k4, h⟩ := h
  refine zc_1_400 (x0 := p2) (x1 := p5) hB rfl k4 d_1025_109 (Nat.le_of_ble_eq_true rfl) h (fun v6 S5 h => ?_)
  refine zu_lstore d_1025_112 (zs_lt zq_1025 rfl) ?_
  refine zu_iconst d_1025_114 zi_1 ?_
  refine zu_istore d_1025_115 (zs_lt zq_1025 rfl) ?_
  exact h.weak ⟨rfl, rfl, rfl, rfl, trivial⟩
def w_X2_storeTag_85 (X : zs_X) (d : Nat) (p0 : Nat) (p2 : Option Nat) (p4 : Int32) (p5 : Int32) (p6 : Int32) (p7 : Option Nat) (p8 : Int64) (S : zs_T) (Q : zs_Q) : Prop :=
  (((p6 = 0 → w_X2_storeTag_102 X d p0 p2 p4 p5 S Q) ∧ (¬ (p6 = 0) → (∃ b2, p2 = some b2 ∧ zs_K S b2 = some (.inl 14) ∧ zs_C X d 14001 [.ref b2, .long p8] S (zs_kR (fun v6 S5 => (((¬ p7 = v6 → w_X2_storeTag_102 X d p0 p2 p4 p5 S5 Q) ∧ (¬ (¬ p7 = v6) → (Q (.returned none) S5))))) Q)))))
theorem u_X2_storeTag_85 {σ : Nat → Nat} {n0 : Nat} {bf : ab_B} {d : Nat} {p0 : Nat} {p2 : Option Nat} {p4 : Int32} {p5 : Int32} {p6 : Int32} {p7 : Option Nat} {p8 : Int64} {S : zs_T} {Q : zs_Q} (hB : zt_B bf) (h : w_X2_storeTag_85 (zx σ n0 bf) d p0 p2 p4 p5 p6 p7 p8 S Q) : zs_U (zx σ n0 bf) d 1025 85 [(0, .ref p0), (2, va_rf p2), (4, .int p4), (5, .int p5), (6, .int p6), (7, va_rf p7), (8, .long p8)] [] S Q := by
  unfold w_X2_storeTag_85 at h
  refine zu_iload d_1025_85 rfl ?_
  refine zu_ifeq (t := 102) d_1025_87 rfl (fun c1 => ?_) (fun c1 => ?_)
  · have h := h.1 c1
    exact (u_X2_storeTag_102 hB h).weak ⟨rfl, rfl, rfl, rfl, trivial⟩
  · have h := h.2 c1
    refine zu_aload d_1025_90 rfl (zs_rr _) ?_
    refine zu_aload_n d_1025_92 rfl (zs_rr _) ?_
    refine zu_lload d_1025_93 rfl ?_
    obtain ⟨b2, e3, h⟩ := h
    refine zs_stk1 (zs_rfe e3) ?_
    obtain ⟨k4, h⟩ := h
    refine zc_1_396 (x0 := p8) hB rfl k4 d_1025_95 (by simp only [List.map_cons, List.map_nil, List.sum_cons, List.sum_nil, zs_cat, zs_cI, zs_cJ, zs_cA]; exact Nat.le_of_ble_eq_true rfl) h (fun v6 S5 h => ?_)
    refine zu_acmpne (u := p7) (w := v6) (t := 102) d_1025_98 rfl rfl rfl (fun c7 => ?_) (fun c7 => ?_)
    · have h := h.1 c7
      exact (u_X2_storeTag_102 hB h).weak ⟨rfl, rfl, rfl, rfl, trivial⟩
    · have h := h.2 c7
      exact zu_vret d_1025_101 zr_1025 h
def w_X2_storeTag_84 (X : zs_X) (d : Nat)  (S : zs_T) (Q : zs_Q) : Prop :=
  (Q (.returned none) S)
theorem u_X2_storeTag_84 {σ : Nat → Nat} {n0 : Nat} {bf : ab_B} {d : Nat}  {S : zs_T} {Q : zs_Q} (hB : zt_B bf) (h : w_X2_storeTag_84 (zx σ n0 bf) d  S Q) : zs_U (zx σ n0 bf) d 1025 84 [] [] S Q := by
  unfold w_X2_storeTag_84 at h
  exact zu_vret d_1025_84 zr_1025 h
def w_X2_storeTag_54 (X : zs_X) (d : Nat) (p0 : Nat) (p1 : Option Nat) (p2 : Option Nat) (p3 : Int32) (p4 : Int32) (p5 : Int32) (p6 : Int32) (q0 : Option Nat) (S : zs_T) (Q : zs_Q) : Prop :=
  (zs_K S p0 = some (.inl 1) ∧ ∃ b2, (zs_R S 1005 p0) = some b2 ∧ zs_A S b2 3 ((zs_I S 1007 p0) + (1 : Int32)) ∧ zs_C X d 1022 [.ref p0, .int p4, .int p5, va_rf p1, .long (zs_j S b2 ((zs_I S 1007 p0) + (1 : Int32)).toNatClampNeg), .int p3] S (zs_kI (fun v6 S5 => (((¬ v6 = 0 → w_X2_storeTag_85 X d p0 p2 p4 p5 p6 q0 (zs_j S b2 ((zs_I S 1007 p0) + (1 : Int32)).toNatClampNeg) S5 Q) ∧ (¬ (¬ v6 = 0) → w_X2_storeTag_84 X d  S5 Q)))) Q))
theorem u_X2_storeTag_54 {σ : Nat → Nat} {n0 : Nat} {bf : ab_B} {d : Nat} {p0 : Nat} {p1 : Option Nat} {p2 : Option Nat} {p3 : Int32} {p4 : Int32} {p5 : Int32} {p6 : Int32} {q0 : Option Nat} {S : zs_T} {Q : zs_Q} (hB : zt_B bf) (h : w_X2_storeTag_54 (zx σ n0 bf) d p0 p1 p2 p3 p4 p5 p6 q0 S Q) : zs_U (zx σ n0 bf) d 1025 54 [(0, .ref p0), (1, va_rf p1), (2, va_rf p2), (3, .int p3), (4, .int p4), (5, .int p5), (6, .int p6)] [va_rf q0] S Q := by
  unfold w_X2_storeTag_54 at h
  refine zu_astore d_1025_54 (zs_rr _) (zs_lt zq_1025 rfl) ?_
  refine zu_aload_n d_1025_56 rfl (zs_ra _) ?_
  obtain ⟨k1, h⟩ := h
  refine zg_1_36 rfl d_1025_57 k1 ?_
  refine zu_aload_n d_1025_60 rfl (zs_ra _) ?_
  refine zg_1_111 rfl d_1025_61 k1 ?_
  refine zu_iconst d_1025_64 zi_1 ?_
  refine zu_stk d_1025_65 rfl rfl ?_
  obtain ⟨b2, e3, h⟩ := h
  refine zs_stk1 (zs_rfe e3) ?_
  obtain ⟨k4, h⟩ := h
  refine zu_lald (k := 3) d_1025_66 rfl rfl k4 ?_
  refine zu_lstore d_1025_67 (zs_lt zq_1025 rfl) ?_
  refine zs_U.weak (L1 := [(8, .long (zs_j S b2 ((zs_I S 1007 p0) + (1 : Int32)).toNatClampNeg)), (0, .ref p0), (1, va_rf p1), (2, va_rf p2), (3, .int p3), (4, .int p4), (5, .int p5), (6, .int p6), (7, va_rf q0)]) ?_ ⟨rfl, zs_gp2 rfl rfl (Or.inl rfl) rfl, zs_gp2 rfl rfl (Or.inl (zs_cat _)) rfl, zs_gp2 rfl rfl (Or.inl (zs_cat _)) rfl, zs_gp2 rfl rfl (Or.inl rfl) rfl, zs_gp2 rfl rfl (Or.inl rfl) rfl, zs_gp2 rfl rfl (Or.inl rfl) rfl, zs_gp2 rfl rfl (Or.inl rfl) rfl, zs_gp2 rfl rfl (Or.inl (zs_cat _)) rfl, trivial⟩
  refine zu_aload_n d_1025_69 rfl (zs_ra _) ?_
  refine zu_iload d_1025_70 rfl ?_
  refine zu_iload d_1025_72 rfl ?_
  refine zu_aload_n d_1025_74 rfl (zs_rr _) ?_
  refine zu_lload d_1025_75 rfl ?_
  refine zu_iload_n d_1025_77 rfl ?_
  refine zc_1_273 (x0 := p4) (x1 := p5) (x2 := p1) (x3 := (zs_j S b2 ((zs_I S 1007 p0) + (1 : Int32)).toNatClampNeg)) (x4 := p3) hB rfl k1 d_1025_78 (Nat.le_of_ble_eq_true rfl) h (fun v6 S5 h => ?_)
  refine zu_ifne (t := 85) d_1025_81 rfl (fun c7 => ?_) (fun c7 => ?_)
  · have h := h.1 c7
    exact (u_X2_storeTag_85 hB h).weak ⟨rfl, rfl, rfl, rfl, rfl, rfl, rfl, trivial⟩
  · have h := h.2 c7
    exact (u_X2_storeTag_84 hB h).weak trivial
def w_X2_storeTag_34 (X : zs_X) (d : Nat) (p0 : Nat) (p1 : Option Nat) (p2 : Option Nat) (p3 : Int32) (p4 : Int32) (p5 : Int32) (p6 : Int32) (S : zs_T) (Q : zs_Q) : Prop :=
  (((p6 = 0 → (w_X2_storeTag_54 X d p0 p1 p2 p3 p4 p5 p6 none S Q)) ∧ (¬ (p6 = 0) → (zs_K S p0 = some (.inl 1) ∧ ∃ b3, (zs_R S 1001 p0) = some b3 ∧ zs_A S b3 3 p4 ∧ ∃ b6, p2 = some b6 ∧ zs_K S b6 = some (.inl 14) ∧ zs_C X d 14001 [.ref b6, .long (zs_j S b3 p4.toNatClampNeg)] S (zs_kR (fun v10 S9 => (w_X2_storeTag_54 X d p0 p1 p2 p3 p4 p5 p6 v10 S9 Q)) Q)))))
theorem u_X2_storeTag_34 {σ : Nat → Nat} {n0 : Nat} {bf : ab_B} {d : Nat} {p0 : Nat} {p1 : Option Nat} {p2 : Option Nat} {p3 : Int32} {p4 : Int32} {p5 : Int32} {p6 : Int32} {S : zs_T} {Q : zs_Q} (hB : zt_B bf) (h : w_X2_storeTag_34 (zx σ n0 bf) d p0 p1 p2 p3 p4 p5 p6 S Q) : zs_U (zx σ n0 bf) d 1025 34 [(0, .ref p0), (1, va_rf p1), (2, va_rf p2), (3, .int p3), (4, .int p4), (5, .int p5), (6, .int p6)] [] S Q := by
  unfold w_X2_storeTag_34 at h
  refine zu_iload d_1025_34 rfl ?_
  refine zu_ifeq (t := 53) d_1025_36 rfl (fun c1 => ?_) (fun c1 => ?_)
  · have h := h.1 c1
    refine zu_stk d_1025_53 rfl rfl ?_
    exact (u_X2_storeTag_54 hB h).weak ⟨rfl, rfl, rfl, rfl, rfl, rfl, rfl, trivial⟩
  · have h := h.2 c1
    refine zu_aload_n d_1025_39 rfl (zs_rr _) ?_
    refine zu_aload_n d_1025_40 rfl (zs_ra _) ?_
    obtain ⟨k2, h⟩ := h
    refine zg_1_10 rfl d_1025_41 k2 ?_
    refine zu_iload d_1025_44 rfl ?_
    obtain ⟨b3, e4, h⟩ := h
    refine zs_stk1 (zs_rfe e4) ?_
    obtain ⟨k5, h⟩ := h
    refine zu_lald (k := 3) d_1025_46 rfl rfl k5 ?_
    obtain ⟨b6, e7, h⟩ := h
    refine zs_stk1 (zs_rfe e7) ?_
    obtain ⟨k8, h⟩ := h
    refine zc_1_396 (x0 := (zs_j S b3 p4.toNatClampNeg)) hB rfl k8 d_1025_47 (Nat.le_of_ble_eq_true rfl) h (fun v10 S9 h => ?_)
    refine zu_goto (t := 54) d_1025_50 rfl ?_
    exact (u_X2_storeTag_54 hB h).weak ⟨rfl, rfl, rfl, rfl, rfl, rfl, rfl, trivial⟩
def w_X2_storeTag_117 (X : zs_X) (d : Nat) (p0 : Nat) (p4 : Int32) (p10 : Int64) (p12 : Int32) (S : zs_T) (Q : zs_Q) : Prop :=
  (((p10 < ((p12).toInt64) → (Q (.returned none) S)) ∧ (¬ (p10 < ((p12).toInt64)) → (zs_K S p0 = some (.inl 1) ∧ ∃ b3, (zs_R S 1002 p0) = some b3 ∧ zs_A S b3 2 (p4 + p12) ∧ ab_n0 X.1 ≤ b3 ∧ ∀ S7, S7 = zs_si S b3 (p4 + p12).toNatClampNeg (vp_nar .boolean (0 : Int32)) → zs_U X d 1025 117 [(0, .ref p0), (4, .int p4), (10, .long p10), (12, .int (p12 + (1 : Int32)))] [] S7 Q))))
theorem u_X2_storeTag_117 {σ : Nat → Nat} {n0 : Nat} {bf : ab_B} {d : Nat} {p0 : Nat} {p4 : Int32} {p10 : Int64} {p12 : Int32} {S : zs_T} {Q : zs_Q} (hB : zt_B bf) (h : w_X2_storeTag_117 (zx σ n0 bf) d p0 p4 p10 p12 S Q) : zs_U (zx σ n0 bf) d 1025 117 [(0, .ref p0), (4, .int p4), (10, .long p10), (12, .int p12)] [] S Q := by
  unfold w_X2_storeTag_117 at h
  refine zu_iload d_1025_117 rfl ?_
  refine zu_stk d_1025_119 rfl rfl ?_
  refine zu_lload d_1025_120 rfl ?_
  refine zu_lgt (t := 143) d_1025_122 d_1025_123 rfl (fun c1 => ?_) (fun c1 => ?_)
  · have h := h.1 c1
    exact zu_vret d_1025_143 zr_1025 h
  · have h := h.2 c1
    refine zu_aload_n d_1025_126 rfl (zs_ra _) ?_
    obtain ⟨k2, h⟩ := h
    refine zg_1_17 rfl d_1025_127 k2 ?_
    refine zu_iload d_1025_130 rfl ?_
    refine zu_iload d_1025_132 rfl ?_
    refine zu_stk d_1025_134 rfl rfl ?_
    refine zu_iconst d_1025_135 zi_0 ?_
    obtain ⟨b3, e4, h⟩ := h
    refine zs_stk2 (zs_rfe e4) ?_
    obtain ⟨k5, h⟩ := h
    obtain ⟨k6, h⟩ := h
    refine zu_bast_bool (k := 2) d_1025_136 rfl rfl k6 k5 ?_
    generalize e8 : zs_si S b3 (p4 + p12).toNatClampNeg (vp_nar .boolean (0 : Int32)) = S7
    have h := h S7 e8.symm
    have K9 : ∀ b, zs_K S7 b = zs_K S b := zs_Kt e8 (zs_Ksi _ _ _ _) (fun _ => rfl)
    refine zu_iinc d_1025_137 rfl zi_1 (zs_lt zq_1025 rfl) ?_
    refine zu_goto (t := 117) d_1025_140 rfl ?_
    exact h.weak ⟨rfl, rfl, rfl, rfl, trivial⟩
def w_X2_storeTag (X : zs_X) (d : Nat) (p0 : Nat) (p1 : Option Nat) (p2 : Option Nat) (p3 : Int32) (S : zs_T) (Q : zs_Q) : Prop :=
  (zs_K S p0 = some (.inl 1) ∧ ∃ b2, (zs_R S 1005 p0) = some b2 ∧ zs_A S b2 3 (zs_I S 1007 p0) ∧ ∃ b5, (zs_R S 1006 p0) = some b5 ∧ zs_A S b5 0 (zs_I S 1007 p0) ∧ zs_C X d 1016 [.ref p0, .int (((zs_j S b2 (zs_I S 1007 p0).toNatClampNeg)).toInt32), .int (zs_i S b5 (zs_I S 1007 p0).toNatClampNeg), va_rf p1] S (zs_kI (fun v9 S8 => (w_X2_storeTag_34 X d p0 p1 p2 p3 (((zs_j S b2 (zs_I S 1007 p0).toNatClampNeg)).toInt32) (zs_i S b5 (zs_I S 1007 p0).toNatClampNeg) v9 S8 Q)) Q))
theorem u_X2_storeTag {σ : Nat → Nat} {n0 : Nat} {bf : ab_B} {d : Nat} {p0 : Nat} {p1 : Option Nat} {p2 : Option Nat} {p3 : Int32} {S : zs_T} {Q : zs_Q} (hB : zt_B bf) (hd : 1 ≤ d) (h : w_X2_storeTag (zx σ n0 bf) (d - 1) p0 p1 p2 p3 S Q) : zs_C (zx σ n0 bf) d 1025 [.ref p0, va_rf p1, va_rf p2, .int p3] S Q := by
  have hL : lv_args 0 [.ref p0, va_rf p1, va_rf p2, .int p3] = [(0, .ref p0), (1, va_rf p1), (2, va_rf p2), (3, .int p3)] := by simp [lv_args, zs_cat, zs_cI, zs_cJ, zs_cA]
  refine zs_C.of1 (hB.2 1025 (by decide) (by decide)) hd (by rw [hL]; exact zs_sub_self _ (by exact ⟨rfl, rfl, rfl, rfl, trivial⟩)) ?_
  rw [hL]
  clear hL
  unfold w_X2_storeTag at h
  refine zu_aload_n d_1025_0 rfl (zs_ra _) ?_
  obtain ⟨k1, h⟩ := h
  refine zg_1_36 rfl d_1025_1 k1 ?_
  refine zu_aload_n d_1025_4 rfl (zs_ra _) ?_
  refine zg_1_111 rfl d_1025_5 k1 ?_
  obtain ⟨b2, e3, h⟩ := h
  refine zs_stk1 (zs_rfe e3) ?_
  obtain ⟨k4, h⟩ := h
  refine zu_lald (k := 3) d_1025_8 rfl rfl k4 ?_
  refine zu_stk d_1025_9 rfl rfl ?_
  refine zu_istore d_1025_10 (zs_lt zq_1025 rfl) ?_
  refine zu_aload_n d_1025_12 rfl (zs_ra _) ?_
  refine zg_1_39 rfl d_1025_13 k1 ?_
  refine zu_aload_n d_1025_16 rfl (zs_ra _) ?_
  refine zg_1_111 rfl d_1025_17 k1 ?_
  obtain ⟨b5, e6, h⟩ := h
  refine zs_stk1 (zs_rfe e6) ?_
  obtain ⟨k7, h⟩ := h
  refine zu_iald (k := 0) d_1025_20 rfl rfl k7 ?_
  refine zu_istore d_1025_21 (zs_lt zq_1025 rfl) ?_
  refine zu_aload_n d_1025_23 rfl (zs_ra _) ?_
  refine zu_iload d_1025_24 rfl ?_
  refine zu_iload d_1025_26 rfl ?_
  refine zu_aload_n d_1025_28 rfl (zs_rr _) ?_
  refine zc_1_265 (x0 := (((zs_j S b2 (zs_I S 1007 p0).toNatClampNeg)).toInt32)) (x1 := (zs_i S b5 (zs_I S 1007 p0).toNatClampNeg)) (x2 := p1) hB rfl k1 d_1025_29 (Nat.le_of_ble_eq_true rfl) h (fun v9 S8 h => ?_)
  refine zu_istore d_1025_32 (zs_lt zq_1025 rfl) ?_
  exact (u_X2_storeTag_34 hB h).weak ⟨rfl, rfl, rfl, rfl, rfl, rfl, rfl, trivial⟩
/-! SchemaPascal$Machine.copy(LSchemaPascal$Type;I)V -/
theorem zm_1026 {σ : Nat → Nat} {n0 : Nat} {bf : ab_B} : ab_code (zx σ n0 bf).1 1026 = prog_5_method_29_code := rfl
theorem zq_1026 {σ : Nat → Nat} {n0 : Nat} {bf : ab_B} : ab_maxL (zx σ n0 bf).1 1026 = 3 := rfl
theorem zr_1026 {σ : Nat → Nat} {n0 : Nat} {bf : ab_B} : ab_ret (zx σ n0 bf).1 1026 = (Option.none : Option Jvm.ClassFile.FieldType) := rfl
theorem d_1026_0 {σ : Nat → Nat} {n0 : Nat} {bf : ab_B} : decode (ab_code (zx σ n0 bf).1 1026) 0 = .ok (.aload_n 0, 1) := zd zm_1026 (by decide +kernel)
theorem d_1026_1 {σ : Nat → Nat} {n0 : Nat} {bf : ab_B} : decode (ab_code (zx σ n0 bf).1 1026) 1 = .ok (.dup, 1) := zd zm_1026 (by decide +kernel)
theorem d_1026_2 {σ : Nat → Nat} {n0 : Nat} {bf : ab_B} : decode (ab_code (zx σ n0 bf).1 1026) 2 = .ok (.getfield 111, 3) := zd zm_1026 (by decide +kernel)
theorem d_1026_5 {σ : Nat → Nat} {n0 : Nat} {bf : ab_B} : decode (ab_code (zx σ n0 bf).1 1026) 5 = .ok (.iconst 2, 1) := zd zm_1026 (by decide +kernel)
theorem d_1026_6 {σ : Nat → Nat} {n0 : Nat} {bf : ab_B} : decode (ab_code (zx σ n0 bf).1 1026) 6 = .ok (.isub, 1) := zd zm_1026 (by decide +kernel)
theorem d_1026_7 {σ : Nat → Nat} {n0 : Nat} {bf : ab_B} : decode (ab_code (zx σ n0 bf).1 1026) 7 = .ok (.putfield 111, 3) := zd zm_1026 (by decide +kernel)
theorem d_1026_10 {σ : Nat → Nat} {n0 : Nat} {bf : ab_B} : decode (ab_code (zx σ n0 bf).1 1026) 10 = .ok (.aload_n 0, 1) := zd zm_1026 (by decide +kernel)
theorem d_1026_11 {σ : Nat → Nat} {n0 : Nat} {bf : ab_B} : decode (ab_code (zx σ n0 bf).1 1026) 11 = .ok (.aload_n 1, 1) := zd zm_1026 (by decide +kernel)
theorem d_1026_12 {σ : Nat → Nat} {n0 : Nat} {bf : ab_B} : decode (ab_code (zx σ n0 bf).1 1026) 12 = .ok (.aload_n 0, 1) := zd zm_1026 (by decide +kernel)
theorem d_1026_13 {σ : Nat → Nat} {n0 : Nat} {bf : ab_B} : decode (ab_code (zx σ n0 bf).1 1026) 13 = .ok (.getfield 39, 3) := zd zm_1026 (by decide +kernel)
theorem d_1026_16 {σ : Nat → Nat} {n0 : Nat} {bf : ab_B} : decode (ab_code (zx σ n0 bf).1 1026) 16 = .ok (.aload_n 0, 1) := zd zm_1026 (by decide +kernel)
theorem d_1026_17 {σ : Nat → Nat} {n0 : Nat} {bf : ab_B} : decode (ab_code (zx σ n0 bf).1 1026) 17 = .ok (.getfield 111, 3) := zd zm_1026 (by decide +kernel)
theorem d_1026_20 {σ : Nat → Nat} {n0 : Nat} {bf : ab_B} : decode (ab_code (zx σ n0 bf).1 1026) 20 = .ok (.iaload, 1) := zd zm_1026 (by decide +kernel)
theorem d_1026_21 {σ : Nat → Nat} {n0 : Nat} {bf : ab_B} : decode (ab_code (zx σ n0 bf).1 1026) 21 = .ok (.aload_n 0, 1) := zd zm_1026 (by decide +kernel)
theorem d_1026_22 {σ : Nat → Nat} {n0 : Nat} {bf : ab_B} : decode (ab_code (zx σ n0 bf).1 1026) 22 = .ok (.getfield 39, 3) := zd zm_1026 (by decide +kernel)
theorem d_1026_25 {σ : Nat → Nat} {n0 : Nat} {bf : ab_B} : decode (ab_code (zx σ n0 bf).1 1026) 25 = .ok (.aload_n 0, 1) := zd zm_1026 (by decide +kernel)
theorem d_1026_26 {σ : Nat → Nat} {n0 : Nat} {bf : ab_B} : decode (ab_code (zx σ n0 bf).1 1026) 26 = .ok (.getfield 111, 3) := zd zm_1026 (by decide +kernel)
theorem d_1026_29 {σ : Nat → Nat} {n0 : Nat} {bf : ab_B} : decode (ab_code (zx σ n0 bf).1 1026) 29 = .ok (.iconst 1, 1) := zd zm_1026 (by decide +kernel)
theorem d_1026_30 {σ : Nat → Nat} {n0 : Nat} {bf : ab_B} : decode (ab_code (zx σ n0 bf).1 1026) 30 = .ok (.iadd, 1) := zd zm_1026 (by decide +kernel)
theorem d_1026_31 {σ : Nat → Nat} {n0 : Nat} {bf : ab_B} : decode (ab_code (zx σ n0 bf).1 1026) 31 = .ok (.iaload, 1) := zd zm_1026 (by decide +kernel)
theorem d_1026_32 {σ : Nat → Nat} {n0 : Nat} {bf : ab_B} : decode (ab_code (zx σ n0 bf).1 1026) 32 = .ok (.invokevirtual 404, 3) := zd zm_1026 (by decide +kernel)
theorem d_1026_35 {σ : Nat → Nat} {n0 : Nat} {bf : ab_B} : decode (ab_code (zx σ n0 bf).1 1026) 35 = .ok (.ifCond .ne 14, 3) := zd zm_1026 (by decide +kernel)
theorem d_1026_38 {σ : Nat → Nat} {n0 : Nat} {bf : ab_B} : decode (ab_code (zx σ n0 bf).1 1026) 38 = .ok (.aload_n 0, 1) := zd zm_1026 (by decide +kernel)
theorem d_1026_39 {σ : Nat → Nat} {n0 : Nat} {bf : ab_B} : decode (ab_code (zx σ n0 bf).1 1026) 39 = .ok (.bipush 9, 2) := zd zm_1026 (by decide +kernel)
theorem d_1026_41 {σ : Nat → Nat} {n0 : Nat} {bf : ab_B} : decode (ab_code (zx σ n0 bf).1 1026) 41 = .ok (.iload_n 2, 1) := zd zm_1026 (by decide +kernel)
theorem d_1026_42 {σ : Nat → Nat} {n0 : Nat} {bf : ab_B} : decode (ab_code (zx σ n0 bf).1 1026) 42 = .ok (.invokevirtual 194, 3) := zd zm_1026 (by decide +kernel)
theorem d_1026_45 {σ : Nat → Nat} {n0 : Nat} {bf : ab_B} : decode (ab_code (zx σ n0 bf).1 1026) 45 = .ok (.pop, 1) := zd zm_1026 (by decide +kernel)
theorem d_1026_46 {σ : Nat → Nat} {n0 : Nat} {bf : ab_B} : decode (ab_code (zx σ n0 bf).1 1026) 46 = .ok (.goto 43, 3) := zd zm_1026 (by decide +kernel)
theorem d_1026_49 {σ : Nat → Nat} {n0 : Nat} {bf : ab_B} : decode (ab_code (zx σ n0 bf).1 1026) 49 = .ok (.aload_n 0, 1) := zd zm_1026 (by decide +kernel)
theorem d_1026_50 {σ : Nat → Nat} {n0 : Nat} {bf : ab_B} : decode (ab_code (zx σ n0 bf).1 1026) 50 = .ok (.aload_n 0, 1) := zd zm_1026 (by decide +kernel)
theorem d_1026_51 {σ : Nat → Nat} {n0 : Nat} {bf : ab_B} : decode (ab_code (zx σ n0 bf).1 1026) 51 = .ok (.getfield 36, 3) := zd zm_1026 (by decide +kernel)
theorem d_1026_54 {σ : Nat → Nat} {n0 : Nat} {bf : ab_B} : decode (ab_code (zx σ n0 bf).1 1026) 54 = .ok (.aload_n 0, 1) := zd zm_1026 (by decide +kernel)
theorem d_1026_55 {σ : Nat → Nat} {n0 : Nat} {bf : ab_B} : decode (ab_code (zx σ n0 bf).1 1026) 55 = .ok (.getfield 111, 3) := zd zm_1026 (by decide +kernel)
theorem d_1026_58 {σ : Nat → Nat} {n0 : Nat} {bf : ab_B} : decode (ab_code (zx σ n0 bf).1 1026) 58 = .ok (.iconst 1, 1) := zd zm_1026 (by decide +kernel)
theorem d_1026_59 {σ : Nat → Nat} {n0 : Nat} {bf : ab_B} : decode (ab_code (zx σ n0 bf).1 1026) 59 = .ok (.iadd, 1) := zd zm_1026 (by decide +kernel)
theorem d_1026_60 {σ : Nat → Nat} {n0 : Nat} {bf : ab_B} : decode (ab_code (zx σ n0 bf).1 1026) 60 = .ok (.laload, 1) := zd zm_1026 (by decide +kernel)
theorem d_1026_61 {σ : Nat → Nat} {n0 : Nat} {bf : ab_B} : decode (ab_code (zx σ n0 bf).1 1026) 61 = .ok (.l2i, 1) := zd zm_1026 (by decide +kernel)
theorem d_1026_62 {σ : Nat → Nat} {n0 : Nat} {bf : ab_B} : decode (ab_code (zx σ n0 bf).1 1026) 62 = .ok (.aload_n 0, 1) := zd zm_1026 (by decide +kernel)
theorem d_1026_63 {σ : Nat → Nat} {n0 : Nat} {bf : ab_B} : decode (ab_code (zx σ n0 bf).1 1026) 63 = .ok (.getfield 36, 3) := zd zm_1026 (by decide +kernel)
theorem d_1026_66 {σ : Nat → Nat} {n0 : Nat} {bf : ab_B} : decode (ab_code (zx σ n0 bf).1 1026) 66 = .ok (.aload_n 0, 1) := zd zm_1026 (by decide +kernel)
theorem d_1026_67 {σ : Nat → Nat} {n0 : Nat} {bf : ab_B} : decode (ab_code (zx σ n0 bf).1 1026) 67 = .ok (.getfield 111, 3) := zd zm_1026 (by decide +kernel)
theorem d_1026_70 {σ : Nat → Nat} {n0 : Nat} {bf : ab_B} : decode (ab_code (zx σ n0 bf).1 1026) 70 = .ok (.laload, 1) := zd zm_1026 (by decide +kernel)
theorem d_1026_71 {σ : Nat → Nat} {n0 : Nat} {bf : ab_B} : decode (ab_code (zx σ n0 bf).1 1026) 71 = .ok (.l2i, 1) := zd zm_1026 (by decide +kernel)
theorem d_1026_72 {σ : Nat → Nat} {n0 : Nat} {bf : ab_B} : decode (ab_code (zx σ n0 bf).1 1026) 72 = .ok (.aload_n 0, 1) := zd zm_1026 (by decide +kernel)
theorem d_1026_73 {σ : Nat → Nat} {n0 : Nat} {bf : ab_B} : decode (ab_code (zx σ n0 bf).1 1026) 73 = .ok (.aload_n 1, 1) := zd zm_1026 (by decide +kernel)
theorem d_1026_74 {σ : Nat → Nat} {n0 : Nat} {bf : ab_B} : decode (ab_code (zx σ n0 bf).1 1026) 74 = .ok (.aload_n 0, 1) := zd zm_1026 (by decide +kernel)
theorem d_1026_75 {σ : Nat → Nat} {n0 : Nat} {bf : ab_B} : decode (ab_code (zx σ n0 bf).1 1026) 75 = .ok (.getfield 39, 3) := zd zm_1026 (by decide +kernel)
theorem d_1026_78 {σ : Nat → Nat} {n0 : Nat} {bf : ab_B} : decode (ab_code (zx σ n0 bf).1 1026) 78 = .ok (.aload_n 0, 1) := zd zm_1026 (by decide +kernel)
theorem d_1026_79 {σ : Nat → Nat} {n0 : Nat} {bf : ab_B} : decode (ab_code (zx σ n0 bf).1 1026) 79 = .ok (.getfield 111, 3) := zd zm_1026 (by decide +kernel)
theorem d_1026_82 {σ : Nat → Nat} {n0 : Nat} {bf : ab_B} : decode (ab_code (zx σ n0 bf).1 1026) 82 = .ok (.iaload, 1) := zd zm_1026 (by decide +kernel)
theorem d_1026_83 {σ : Nat → Nat} {n0 : Nat} {bf : ab_B} : decode (ab_code (zx σ n0 bf).1 1026) 83 = .ok (.invokevirtual 408, 3) := zd zm_1026 (by decide +kernel)
theorem d_1026_86 {σ : Nat → Nat} {n0 : Nat} {bf : ab_B} : decode (ab_code (zx σ n0 bf).1 1026) 86 = .ok (.invokevirtual 412, 3) := zd zm_1026 (by decide +kernel)
theorem d_1026_89 {σ : Nat → Nat} {n0 : Nat} {bf : ab_B} : decode (ab_code (zx σ n0 bf).1 1026) 89 = .ok (.return_, 1) := zd zm_1026 (by decide +kernel)
def w_X2_copy_89 (X : zs_X) (d : Nat)  (S : zs_T) (Q : zs_Q) : Prop :=
  (Q (.returned none) S)
theorem u_X2_copy_89 {σ : Nat → Nat} {n0 : Nat} {bf : ab_B} {d : Nat}  {S : zs_T} {Q : zs_Q} (hB : zt_B bf) (h : w_X2_copy_89 (zx σ n0 bf) d  S Q) : zs_U (zx σ n0 bf) d 1026 89 [] [] S Q := by
  unfold w_X2_copy_89 at h
  exact zu_vret d_1026_89 zr_1026 h
def w_X2_copy_38 (X : zs_X) (d : Nat) (p0 : Nat) (p2 : Int32) (S : zs_T) (Q : zs_Q) : Prop :=
  (zs_K S p0 = some (.inl 1) ∧ zs_C X d 1004 [.ref p0, .int (9 : Int32), .int p2] S (zs_kI (fun v3 S2 => (w_X2_copy_89 X d  S2 Q)) Q))
theorem u_X2_copy_38 {σ : Nat → Nat} {n0 : Nat} {bf : ab_B} {d : Nat} {p0 : Nat} {p2 : Int32} {S : zs_T} {Q : zs_Q} (hB : zt_B bf) (h : w_X2_copy_38 (zx σ n0 bf) d p0 p2 S Q) : zs_U (zx σ n0 bf) d 1026 38 [(0, .ref p0), (2, .int p2)] [] S Q := by
  unfold w_X2_copy_38 at h
  refine zu_aload_n d_1026_38 rfl (zs_ra _) ?_
  refine zu_bipush d_1026_39 zj_9 ?_
  refine zu_iload_n d_1026_41 rfl ?_
  obtain ⟨k1, h⟩ := h
  refine zc_1_194 (x0 := (9 : Int32)) (x1 := p2) hB rfl k1 d_1026_42 (Nat.le_of_ble_eq_true rfl) h (fun v3 S2 h => ?_)
  refine zu_pop d_1026_45 rfl ?_
  refine zu_goto (t := 89) d_1026_46 rfl ?_
  exact (u_X2_copy_89 hB h).weak trivial
def w_X2_copy_49 (X : zs_X) (d : Nat) (p0 : Nat) (p1 : Option Nat) (S : zs_T) (Q : zs_Q) : Prop :=
  (zs_K S p0 = some (.inl 1) ∧ ∃ b2, (zs_R S 1005 p0) = some b2 ∧ zs_A S b2 3 ((zs_I S 1007 p0) + (1 : Int32)) ∧ zs_A S b2 3 (zs_I S 1007 p0) ∧ ∃ b6, (zs_R S 1006 p0) = some b6 ∧ zs_A S b6 0 (zs_I S 1007 p0) ∧ zs_C X d 1028 [.ref p0, va_rf p1, .int (zs_i S b6 (zs_I S 1007 p0).toNatClampNeg)] S (zs_kI (fun v10 S9 => (zs_K S9 p0 = some (.inl 1) ∧ zs_C X d 1029 [.ref p0, .int (((zs_j S b2 ((zs_I S 1007 p0) + (1 : Int32)).toNatClampNeg)).toInt32), .int (((zs_j S b2 (zs_I S 1007 p0).toNatClampNeg)).toInt32), .int v10] S9 (zs_kV (fun S12 => w_X2_copy_89 X d  S12 Q) Q))) Q))
theorem u_X2_copy_49 {σ : Nat → Nat} {n0 : Nat} {bf : ab_B} {d : Nat} {p0 : Nat} {p1 : Option Nat} {S : zs_T} {Q : zs_Q} (hB : zt_B bf) (h : w_X2_copy_49 (zx σ n0 bf) d p0 p1 S Q) : zs_U (zx σ n0 bf) d 1026 49 [(0, .ref p0), (1, va_rf p1)] [] S Q := by
  unfold w_X2_copy_49 at h
  refine zu_aload_n d_1026_49 rfl (zs_ra _) ?_
  refine zu_aload_n d_1026_50 rfl (zs_ra _) ?_
  obtain ⟨k1, h⟩ := h
  refine zg_1_36 rfl d_1026_51 k1 ?_
  refine zu_aload_n d_1026_54 rfl (zs_ra _) ?_
  refine zg_1_111 rfl d_1026_55 k1 ?_
  refine zu_iconst d_1026_58 zi_1 ?_
  refine zu_stk d_1026_59 rfl rfl ?_
  obtain ⟨b2, e3, h⟩ := h
  refine zs_stk1 (zs_rfe e3) ?_
  obtain ⟨k4, h⟩ := h
  refine zu_lald (k := 3) d_1026_60 rfl rfl k4 ?_
  refine zu_stk d_1026_61 rfl rfl ?_
  refine zu_aload_n d_1026_62 rfl (zs_ra _) ?_
  refine zg_1_36 rfl d_1026_63 k1 ?_
  refine zu_aload_n d_1026_66 rfl (zs_ra _) ?_
  refine zg_1_111 rfl d_1026_67 k1 ?_
  refine zs_stk1 (zs_rfe e3) ?_
  obtain ⟨k5, h⟩ := h
  refine zu_lald (k := 3) d_1026_70 rfl rfl k5 ?_
  refine zu_stk d_1026_71 rfl rfl ?_
  refine zu_aload_n d_1026_72 rfl (zs_ra _) ?_
  refine zu_aload_n d_1026_73 rfl (zs_rr _) ?_
  refine zu_aload_n d_1026_74 rfl (zs_ra _) ?_
  refine zg_1_39 rfl d_1026_75 k1 ?_
  refine zu_aload_n d_1026_78 rfl (zs_ra _) ?_
  refine zg_1_111 rfl d_1026_79 k1 ?_
  obtain ⟨b6, e7, h⟩ := h
  refine zs_stk1 (zs_rfe e7) ?_
  obtain ⟨k8, h⟩ := h
  refine zu_iald (k := 0) d_1026_82 rfl rfl k8 ?_
  refine zc_1_408 (x0 := p1) (x1 := (zs_i S b6 (zs_I S 1007 p0).toNatClampNeg)) hB rfl k1 d_1026_83 (Nat.le_of_ble_eq_true rfl) h (fun v10 S9 h => ?_)
  obtain ⟨k11, h⟩ := h
  refine zc_1_412 (x0 := (((zs_j S b2 ((zs_I S 1007 p0) + (1 : Int32)).toNatClampNeg)).toInt32)) (x1 := (((zs_j S b2 (zs_I S 1007 p0).toNatClampNeg)).toInt32)) (x2 := v10) hB rfl k11 d_1026_86 (Nat.le_of_ble_eq_true rfl) h (fun S12 h => ?_)
  exact (u_X2_copy_89 hB h).weak trivial
def w_X2_copy (X : zs_X) (d : Nat) (p0 : Nat) (p1 : Option Nat) (p2 : Int32) (S : zs_T) (Q : zs_Q) : Prop :=
  (zs_K S p0 = some (.inl 1) ∧ ab_n0 X.1 ≤ p0 ∧ ∀ S3, S3 = zs_sI S 1007 p0 ((zs_I S 1007 p0) - (2 : Int32)) → ∃ b6, (zs_R S3 1006 p0) = some b6 ∧ zs_A S b6 0 (zs_I S3 1007 p0) ∧ zs_A S b6 0 ((zs_I S3 1007 p0) + (1 : Int32)) ∧ zs_C X d 1027 [.ref p0, va_rf p1, .int (zs_i S3 b6 (zs_I S3 1007 p0).toNatClampNeg), .int (zs_i S3 b6 ((zs_I S3 1007 p0) + (1 : Int32)).toNatClampNeg)] S3 (zs_kI (fun v11 S10 => (((¬ v11 = 0 → w_X2_copy_49 X d p0 p1 S10 Q) ∧ (¬ (¬ v11 = 0) → w_X2_copy_38 X d p0 p2 S10 Q)))) Q))
theorem u_X2_copy {σ : Nat → Nat} {n0 : Nat} {bf : ab_B} {d : Nat} {p0 : Nat} {p1 : Option Nat} {p2 : Int32} {S : zs_T} {Q : zs_Q} (hB : zt_B bf) (hd : 1 ≤ d) (h : w_X2_copy (zx σ n0 bf) (d - 1) p0 p1 p2 S Q) : zs_C (zx σ n0 bf) d 1026 [.ref p0, va_rf p1, .int p2] S Q := by
  have hL : lv_args 0 [.ref p0, va_rf p1, .int p2] = [(0, .ref p0), (1, va_rf p1), (2, .int p2)] := by simp [lv_args, zs_cat, zs_cI, zs_cJ, zs_cA]
  refine zs_C.of1 (hB.2 1026 (by decide) (by decide)) hd (by rw [hL]; exact zs_sub_self _ (by exact ⟨rfl, rfl, rfl, trivial⟩)) ?_
  rw [hL]
  clear hL
  unfold w_X2_copy at h
  refine zu_aload_n d_1026_0 rfl (zs_ra _) ?_
  refine zu_dup d_1026_1 rfl ?_
  obtain ⟨k1, h⟩ := h
  refine zg_1_111 rfl d_1026_2 k1 ?_
  refine zu_iconst d_1026_5 zi_2 ?_
  refine zu_stk d_1026_6 rfl rfl ?_
  obtain ⟨k2, h⟩ := h
  refine zp_1_111 (v := ((zs_I S 1007 p0) - (2 : Int32))) rfl d_1026_7 k1 k2 ?_
  generalize e4 : zs_sI S 1007 p0 ((zs_I S 1007 p0) - (2 : Int32)) = S3
  have h := h S3 e4.symm
  have K5 : ∀ b, zs_K S3 b = zs_K S b := zs_Kt e4 (zs_KsI _ _ _ _) (fun _ => rfl)
  refine zu_aload_n d_1026_10 rfl (zs_ra _) ?_
  refine zu_aload_n d_1026_11 rfl (zs_rr _) ?_
  refine zu_aload_n d_1026_12 rfl (zs_ra _) ?_
  refine zg_1_39 rfl d_1026_13 ((K5 _).trans k1) ?_
  refine zu_aload_n d_1026_16 rfl (zs_ra _) ?_
  refine zg_1_111 rfl d_1026_17 ((K5 _).trans k1) ?_
  obtain ⟨b6, e7, h⟩ := h
  refine zs_stk1 (zs_rfe e7) ?_
  obtain ⟨k8, h⟩ := h
  refine zu_iald (k := 0) d_1026_20 rfl rfl (zs_Ak K5 k8) ?_
  refine zu_aload_n d_1026_21 rfl (zs_ra _) ?_
  refine zg_1_39 rfl d_1026_22 ((K5 _).trans k1) ?_
  refine zu_aload_n d_1026_25 rfl (zs_ra _) ?_
  refine zg_1_111 rfl d_1026_26 ((K5 _).trans k1) ?_
  refine zu_iconst d_1026_29 zi_1 ?_
  refine zu_stk d_1026_30 rfl rfl ?_
  refine zs_stk1 (zs_rfe e7) ?_
  obtain ⟨k9, h⟩ := h
  refine zu_iald (k := 0) d_1026_31 rfl rfl (zs_Ak K5 k9) ?_
  refine zc_1_404 (x0 := p1) (x1 := (zs_i S3 b6 (zs_I S3 1007 p0).toNatClampNeg)) (x2 := (zs_i S3 b6 ((zs_I S3 1007 p0) + (1 : Int32)).toNatClampNeg)) hB rfl ((K5 _).trans k1) d_1026_32 (Nat.le_of_ble_eq_true rfl) h (fun v11 S10 h => ?_)
  refine zu_ifne (t := 49) d_1026_35 rfl (fun c12 => ?_) (fun c12 => ?_)
  · have h := h.1 c12
    exact (u_X2_copy_49 hB h).weak ⟨rfl, rfl, trivial⟩
  · have h := h.2 c12
    exact (u_X2_copy_38 hB h).weak ⟨rfl, rfl, trivial⟩
/-! SchemaPascal$Machine.sameValues(LSchemaPascal$Type;II)Z -/
theorem zm_1027 {σ : Nat → Nat} {n0 : Nat} {bf : ab_B} : ab_code (zx σ n0 bf).1 1027 = prog_5_method_28_code := rfl
theorem zq_1027 {σ : Nat → Nat} {n0 : Nat} {bf : ab_B} : ab_maxL (zx σ n0 bf).1 1027 = 6 := rfl
theorem zr_1027 {σ : Nat → Nat} {n0 : Nat} {bf : ab_B} : ab_ret (zx σ n0 bf).1 1027 = (Option.some Jvm.ClassFile.FieldType.boolean) := rfl
theorem d_1027_0 {σ : Nat → Nat} {n0 : Nat} {bf : ab_B} : decode (ab_code (zx σ n0 bf).1 1027) 0 = .ok (.iconst 1, 1) := zd zm_1027 (by decide +kernel)
theorem d_1027_1 {σ : Nat → Nat} {n0 : Nat} {bf : ab_B} : decode (ab_code (zx σ n0 bf).1 1027) 1 = .ok (.istore 4, 2) := zd zm_1027 (by decide +kernel)
theorem d_1027_3 {σ : Nat → Nat} {n0 : Nat} {bf : ab_B} : decode (ab_code (zx σ n0 bf).1 1027) 3 = .ok (.iconst 0, 1) := zd zm_1027 (by decide +kernel)
theorem d_1027_4 {σ : Nat → Nat} {n0 : Nat} {bf : ab_B} : decode (ab_code (zx σ n0 bf).1 1027) 4 = .ok (.istore 5, 2) := zd zm_1027 (by decide +kernel)
theorem d_1027_6 {σ : Nat → Nat} {n0 : Nat} {bf : ab_B} : decode (ab_code (zx σ n0 bf).1 1027) 6 = .ok (.aload_n 1, 1) := zd zm_1027 (by decide +kernel)
theorem d_1027_7 {σ : Nat → Nat} {n0 : Nat} {bf : ab_B} : decode (ab_code (zx σ n0 bf).1 1027) 7 = .ok (.invokevirtual 354, 3) := zd zm_1027 (by decide +kernel)
theorem d_1027_10 {σ : Nat → Nat} {n0 : Nat} {bf : ab_B} : decode (ab_code (zx σ n0 bf).1 1027) 10 = .ok (.ifCond .eq 56, 3) := zd zm_1027 (by decide +kernel)
theorem d_1027_13 {σ : Nat → Nat} {n0 : Nat} {bf : ab_B} : decode (ab_code (zx σ n0 bf).1 1027) 13 = .ok (.iload 5, 2) := zd zm_1027 (by decide +kernel)
theorem d_1027_15 {σ : Nat → Nat} {n0 : Nat} {bf : ab_B} : decode (ab_code (zx σ n0 bf).1 1027) 15 = .ok (.aload_n 1, 1) := zd zm_1027 (by decide +kernel)
theorem d_1027_16 {σ : Nat → Nat} {n0 : Nat} {bf : ab_B} : decode (ab_code (zx σ n0 bf).1 1027) 16 = .ok (.invokevirtual 358, 3) := zd zm_1027 (by decide +kernel)
theorem d_1027_19 {σ : Nat → Nat} {n0 : Nat} {bf : ab_B} : decode (ab_code (zx σ n0 bf).1 1027) 19 = .ok (.getfield 362, 3) := zd zm_1027 (by decide +kernel)
theorem d_1027_22 {σ : Nat → Nat} {n0 : Nat} {bf : ab_B} : decode (ab_code (zx σ n0 bf).1 1027) 22 = .ok (.invokevirtual 336, 3) := zd zm_1027 (by decide +kernel)
theorem d_1027_25 {σ : Nat → Nat} {n0 : Nat} {bf : ab_B} : decode (ab_code (zx σ n0 bf).1 1027) 25 = .ok (.if_icmp .ge 41, 3) := zd zm_1027 (by decide +kernel)
theorem d_1027_28 {σ : Nat → Nat} {n0 : Nat} {bf : ab_B} : decode (ab_code (zx σ n0 bf).1 1027) 28 = .ok (.iload 4, 2) := zd zm_1027 (by decide +kernel)
theorem d_1027_30 {σ : Nat → Nat} {n0 : Nat} {bf : ab_B} : decode (ab_code (zx σ n0 bf).1 1027) 30 = .ok (.aload_n 0, 1) := zd zm_1027 (by decide +kernel)
theorem d_1027_31 {σ : Nat → Nat} {n0 : Nat} {bf : ab_B} : decode (ab_code (zx σ n0 bf).1 1027) 31 = .ok (.getfield 10, 3) := zd zm_1027 (by decide +kernel)
theorem d_1027_34 {σ : Nat → Nat} {n0 : Nat} {bf : ab_B} : decode (ab_code (zx σ n0 bf).1 1027) 34 = .ok (.iload_n 2, 1) := zd zm_1027 (by decide +kernel)
theorem d_1027_35 {σ : Nat → Nat} {n0 : Nat} {bf : ab_B} : decode (ab_code (zx σ n0 bf).1 1027) 35 = .ok (.iload 5, 2) := zd zm_1027 (by decide +kernel)
theorem d_1027_37 {σ : Nat → Nat} {n0 : Nat} {bf : ab_B} : decode (ab_code (zx σ n0 bf).1 1027) 37 = .ok (.iadd, 1) := zd zm_1027 (by decide +kernel)
theorem d_1027_38 {σ : Nat → Nat} {n0 : Nat} {bf : ab_B} : decode (ab_code (zx σ n0 bf).1 1027) 38 = .ok (.laload, 1) := zd zm_1027 (by decide +kernel)
theorem d_1027_39 {σ : Nat → Nat} {n0 : Nat} {bf : ab_B} : decode (ab_code (zx σ n0 bf).1 1027) 39 = .ok (.aload_n 0, 1) := zd zm_1027 (by decide +kernel)
theorem d_1027_40 {σ : Nat → Nat} {n0 : Nat} {bf : ab_B} : decode (ab_code (zx σ n0 bf).1 1027) 40 = .ok (.getfield 10, 3) := zd zm_1027 (by decide +kernel)
theorem d_1027_43 {σ : Nat → Nat} {n0 : Nat} {bf : ab_B} : decode (ab_code (zx σ n0 bf).1 1027) 43 = .ok (.iload_n 3, 1) := zd zm_1027 (by decide +kernel)
theorem d_1027_44 {σ : Nat → Nat} {n0 : Nat} {bf : ab_B} : decode (ab_code (zx σ n0 bf).1 1027) 44 = .ok (.iload 5, 2) := zd zm_1027 (by decide +kernel)
theorem d_1027_46 {σ : Nat → Nat} {n0 : Nat} {bf : ab_B} : decode (ab_code (zx σ n0 bf).1 1027) 46 = .ok (.iadd, 1) := zd zm_1027 (by decide +kernel)
theorem d_1027_47 {σ : Nat → Nat} {n0 : Nat} {bf : ab_B} : decode (ab_code (zx σ n0 bf).1 1027) 47 = .ok (.laload, 1) := zd zm_1027 (by decide +kernel)
theorem d_1027_48 {σ : Nat → Nat} {n0 : Nat} {bf : ab_B} : decode (ab_code (zx σ n0 bf).1 1027) 48 = .ok (.lcmp, 1) := zd zm_1027 (by decide +kernel)
theorem d_1027_49 {σ : Nat → Nat} {n0 : Nat} {bf : ab_B} : decode (ab_code (zx σ n0 bf).1 1027) 49 = .ok (.ifCond .ne 7, 3) := zd zm_1027 (by decide +kernel)
theorem d_1027_52 {σ : Nat → Nat} {n0 : Nat} {bf : ab_B} : decode (ab_code (zx σ n0 bf).1 1027) 52 = .ok (.iconst 1, 1) := zd zm_1027 (by decide +kernel)
theorem d_1027_53 {σ : Nat → Nat} {n0 : Nat} {bf : ab_B} : decode (ab_code (zx σ n0 bf).1 1027) 53 = .ok (.goto 4, 3) := zd zm_1027 (by decide +kernel)
theorem d_1027_56 {σ : Nat → Nat} {n0 : Nat} {bf : ab_B} : decode (ab_code (zx σ n0 bf).1 1027) 56 = .ok (.iconst 0, 1) := zd zm_1027 (by decide +kernel)
theorem d_1027_57 {σ : Nat → Nat} {n0 : Nat} {bf : ab_B} : decode (ab_code (zx σ n0 bf).1 1027) 57 = .ok (.iand, 1) := zd zm_1027 (by decide +kernel)
theorem d_1027_58 {σ : Nat → Nat} {n0 : Nat} {bf : ab_B} : decode (ab_code (zx σ n0 bf).1 1027) 58 = .ok (.istore 4, 2) := zd zm_1027 (by decide +kernel)
theorem d_1027_60 {σ : Nat → Nat} {n0 : Nat} {bf : ab_B} : decode (ab_code (zx σ n0 bf).1 1027) 60 = .ok (.iinc 5 1, 3) := zd zm_1027 (by decide +kernel)
theorem d_1027_63 {σ : Nat → Nat} {n0 : Nat} {bf : ab_B} : decode (ab_code (zx σ n0 bf).1 1027) 63 = .ok (.goto (-57), 3) := zd zm_1027 (by decide +kernel)
theorem d_1027_66 {σ : Nat → Nat} {n0 : Nat} {bf : ab_B} : decode (ab_code (zx σ n0 bf).1 1027) 66 = .ok (.iload 4, 2) := zd zm_1027 (by decide +kernel)
theorem d_1027_68 {σ : Nat → Nat} {n0 : Nat} {bf : ab_B} : decode (ab_code (zx σ n0 bf).1 1027) 68 = .ok (.ireturn, 1) := zd zm_1027 (by decide +kernel)
def w_X2_sameValues_57 (X : zs_X) (d : Nat) (p0 : Nat) (p1 : Option Nat) (p2 : Int32) (p3 : Int32) (p5 : Int32) (q0 : Int32) (q1 : Int32) (S : zs_T) (Q : zs_Q) : Prop :=
  (zs_U X d 1027 6 [(0, .ref p0), (1, va_rf p1), (2, .int p2), (3, .int p3), (4, .int (q0 &&& q1)), (5, .int (p5 + (1 : Int32)))] [] S Q)
theorem u_X2_sameValues_57 {σ : Nat → Nat} {n0 : Nat} {bf : ab_B} {d : Nat} {p0 : Nat} {p1 : Option Nat} {p2 : Int32} {p3 : Int32} {p5 : Int32} {q0 : Int32} {q1 : Int32} {S : zs_T} {Q : zs_Q} (hB : zt_B bf) (h : w_X2_sameValues_57 (zx σ n0 bf) d p0 p1 p2 p3 p5 q0 q1 S Q) : zs_U (zx σ n0 bf) d 1027 57 [(0, .ref p0), (1, va_rf p1), (2, .int p2), (3, .int p3), (5, .int p5)] [.int q1, .int q0] S Q := by
  unfold w_X2_sameValues_57 at h
  refine zu_stk d_1027_57 rfl rfl ?_
  refine zu_istore d_1027_58 (zs_lt zq_1027 rfl) ?_
  refine zu_iinc d_1027_60 rfl zi_1 (zs_lt zq_1027 rfl) ?_
  refine zu_goto (t := 6) d_1027_63 rfl ?_
  exact h.weak ⟨rfl, rfl, rfl, rfl, rfl, rfl, trivial⟩
def w_X2_sameValues_6 (X : zs_X) (d : Nat) (p0 : Nat) (p1 : Option Nat) (p2 : Int32) (p3 : Int32) (p4 : Int32) (p5 : Int32) (S : zs_T) (Q : zs_Q) : Prop :=
  (∃ b1, p1 = some b1 ∧ zs_K S b1 = some (.inl 6) ∧ zs_C X d 6004 [.ref b1] S (zs_kI (fun v5 S4 => (((v5 = 0 → (zs_b p4 ∧ Q (.returned (some (.int p4))) S4)) ∧ (¬ (v5 = 0) → (zs_K S4 b1 = some (.inl 6) ∧ zs_C X d 6005 [.ref b1] S4 (zs_kR (fun v10 S9 => (∃ b11, v10 = some b11 ∧ zs_K S9 b11 = some (.inl 6) ∧ ∃ b14, (zs_R S9 6007 b11) = some b14 ∧ zs_K S9 b14 = some (.inl 16) ∧ zs_C X d 16001 [.ref b14] S9 (zs_kI (fun v18 S17 => (((v18 ≤ p5 → (zs_b p4 ∧ Q (.returned (some (.int p4))) S17)) ∧ (¬ (v18 ≤ p5) → (zs_K S17 p0 = some (.inl 1) ∧ ∃ b22, (zs_R S17 1001 p0) = some b22 ∧ zs_A S17 b22 3 (p2 + p5) ∧ zs_A S17 b22 3 (p3 + p5) ∧ ((¬ (zs_j S17 b22 (p2 + p5).toNatClampNeg) = (zs_j S17 b22 (p3 + p5).toNatClampNeg) → (w_X2_sameValues_57 X d p0 p1 p2 p3 p5 p4 (0 : Int32) S17 Q)) ∧ (¬ (¬ (zs_j S17 b22 (p2 + p5).toNatClampNeg) = (zs_j S17 b22 (p3 + p5).toNatClampNeg)) → (w_X2_sameValues_57 X d p0 p1 p2 p3 p5 p4 (1 : Int32) S17 Q)))))))) Q))) Q)))))) Q))
theorem u_X2_sameValues_6 {σ : Nat → Nat} {n0 : Nat} {bf : ab_B} {d : Nat} {p0 : Nat} {p1 : Option Nat} {p2 : Int32} {p3 : Int32} {p4 : Int32} {p5 : Int32} {S : zs_T} {Q : zs_Q} (hB : zt_B bf) (h : w_X2_sameValues_6 (zx σ n0 bf) d p0 p1 p2 p3 p4 p5 S Q) : zs_U (zx σ n0 bf) d 1027 6 [(0, .ref p0), (1, va_rf p1), (2, .int p2), (3, .int p3), (4, .int p4), (5, .int p5)] [] S Q := by
  unfold w_X2_sameValues_6 at h
  refine zu_aload_n d_1027_6 rfl (zs_rr _) ?_
  obtain ⟨b1, e2, h⟩ := h
  refine zs_stk0 (zs_rfe e2) ?_
  obtain ⟨k3, h⟩ := h
  refine zc_1_354  hB rfl k3 d_1027_7 (Nat.le_of_ble_eq_true rfl) h (fun v5 S4 h => ?_)
  refine zu_ifeq (t := 66) d_1027_10 rfl (fun c6 => ?_) (fun c6 => ?_)
  · have h := h.1 c6
    refine zu_iload d_1027_66 rfl ?_
    obtain ⟨k7, h⟩ := h
    exact zu_iret d_1027_68 zr_1027 (zs_b_n k7) h
  · have h := h.2 c6
    refine zu_iload d_1027_13 rfl ?_
    refine zu_aload_n d_1027_15 rfl (zs_rr _) ?_
    refine zs_stk0 (zs_rfe e2) ?_
    obtain ⟨k8, h⟩ := h
    refine zc_1_358  hB rfl k8 d_1027_16 (Nat.le_of_ble_eq_true rfl) h (fun v10 S9 h => ?_)
    obtain ⟨b11, e12, h⟩ := h
    refine zs_stk0 (zs_rfe e12) ?_
    obtain ⟨k13, h⟩ := h
    refine zg_1_362 rfl d_1027_19 k13 ?_
    obtain ⟨b14, e15, h⟩ := h
    refine zs_stk0 (zs_rfe e15) ?_
    obtain ⟨k16, h⟩ := h
    refine zc_1_336  hB rfl k16 d_1027_22 (Nat.le_of_ble_eq_true rfl) h (fun v18 S17 h => ?_)
    refine zu_cmpge (t := 66) d_1027_25 rfl (fun c19 => ?_) (fun c19 => ?_)
    · have h := h.1 c19
      refine zu_iload d_1027_66 rfl ?_
      obtain ⟨k20, h⟩ := h
      exact zu_iret d_1027_68 zr_1027 (zs_b_n k20) h
    · have h := h.2 c19
      refine zu_iload d_1027_28 rfl ?_
      refine zu_aload_n d_1027_30 rfl (zs_ra _) ?_
      obtain ⟨k21, h⟩ := h
      refine zg_1_10 rfl d_1027_31 k21 ?_
      refine zu_iload_n d_1027_34 rfl ?_
      refine zu_iload d_1027_35 rfl ?_
      refine zu_stk d_1027_37 rfl rfl ?_
      obtain ⟨b22, e23, h⟩ := h
      refine zs_stk1 (zs_rfe e23) ?_
      obtain ⟨k24, h⟩ := h
      refine zu_lald (k := 3) d_1027_38 rfl rfl k24 ?_
      refine zu_aload_n d_1027_39 rfl (zs_ra _) ?_
      refine zg_1_10 rfl d_1027_40 k21 ?_
      refine zu_iload_n d_1027_43 rfl ?_
      refine zu_iload d_1027_44 rfl ?_
      refine zu_stk d_1027_46 rfl rfl ?_
      refine zs_stk1 (zs_rfe e23) ?_
      obtain ⟨k25, h⟩ := h
      refine zu_lald (k := 3) d_1027_47 rfl rfl k25 ?_
      refine zu_lne (t := 56) d_1027_48 d_1027_49 rfl (fun c26 => ?_) (fun c26 => ?_)
      · have h := h.1 c26
        refine zu_iconst d_1027_56 zi_0 ?_
        exact (u_X2_sameValues_57 hB h).weak ⟨rfl, rfl, rfl, rfl, rfl, trivial⟩
      · have h := h.2 c26
        refine zu_iconst d_1027_52 zi_1 ?_
        refine zu_goto (t := 57) d_1027_53 rfl ?_
        exact (u_X2_sameValues_57 hB h).weak ⟨rfl, rfl, rfl, rfl, rfl, trivial⟩
def w_X2_sameValues (X : zs_X) (d : Nat) (p0 : Nat) (p1 : Option Nat) (p2 : Int32) (p3 : Int32) (S : zs_T) (Q : zs_Q) : Prop :=
  (zs_U X d 1027 6 [(0, .ref p0), (1, va_rf p1), (2, .int p2), (3, .int p3), (4, .int (1 : Int32)), (5, .int (0 : Int32))] [] S Q)
theorem u_X2_sameValues {σ : Nat → Nat} {n0 : Nat} {bf : ab_B} {d : Nat} {p0 : Nat} {p1 : Option Nat} {p2 : Int32} {p3 : Int32} {S : zs_T} {Q : zs_Q} (hB : zt_B bf) (hd : 1 ≤ d) (h : w_X2_sameValues (zx σ n0 bf) (d - 1) p0 p1 p2 p3 S Q) : zs_C (zx σ n0 bf) d 1027 [.ref p0, va_rf p1, .int p2, .int p3] S Q := by
  have hL : lv_args 0 [.ref p0, va_rf p1, .int p2, .int p3] = [(0, .ref p0), (1, va_rf p1), (2, .int p2), (3, .int p3)] := by simp [lv_args, zs_cat, zs_cI, zs_cJ, zs_cA]
  refine zs_C.of1 (hB.2 1027 (by decide) (by decide)) hd (by rw [hL]; exact zs_sub_self _ (by exact ⟨rfl, rfl, rfl, rfl, trivial⟩)) ?_
  rw [hL]
  clear hL
  unfold w_X2_sameValues at h
  refine zu_iconst d_1027_0 zi_1 ?_
  refine zu_istore d_1027_1 (zs_lt zq_1027 rfl) ?_
  refine zu_iconst d_1027_3 zi_0 ?_
  refine zu_istore d_1027_4 (zs_lt zq_1027 rfl) ?_
  exact h.weak ⟨rfl, rfl, rfl, rfl, rfl, rfl, trivial⟩
/-! SchemaPascal$Machine.sizeOf(LSchemaPascal$Type;I)I -/
theorem zm_1028 {σ : Nat → Nat} {n0 : Nat} {bf : ab_B} : ab_code (zx σ n0 bf).1 1028 = prog_5_method_31_code := rfl
theorem zq_1028 {σ : Nat → Nat} {n0 : Nat} {bf : ab_B} : ab_maxL (zx σ n0 bf).1 1028 = 3 := rfl
theorem zr_1028 {σ : Nat → Nat} {n0 : Nat} {bf : ab_B} : ab_ret (zx σ n0 bf).1 1028 = (Option.some Jvm.ClassFile.FieldType.int) := rfl
theorem d_1028_0 {σ : Nat → Nat} {n0 : Nat} {bf : ab_B} : decode (ab_code (zx σ n0 bf).1 1028) 0 = .ok (.aload_n 0, 1) := zd zm_1028 (by decide +kernel)
theorem d_1028_1 {σ : Nat → Nat} {n0 : Nat} {bf : ab_B} : decode (ab_code (zx σ n0 bf).1 1028) 1 = .ok (.getfield 31, 3) := zd zm_1028 (by decide +kernel)
theorem d_1028_4 {σ : Nat → Nat} {n0 : Nat} {bf : ab_B} : decode (ab_code (zx σ n0 bf).1 1028) 4 = .ok (.aload_n 1, 1) := zd zm_1028 (by decide +kernel)
theorem d_1028_5 {σ : Nat → Nat} {n0 : Nat} {bf : ab_B} : decode (ab_code (zx σ n0 bf).1 1028) 5 = .ok (.invokevirtual 415, 3) := zd zm_1028 (by decide +kernel)
theorem d_1028_8 {σ : Nat → Nat} {n0 : Nat} {bf : ab_B} : decode (ab_code (zx σ n0 bf).1 1028) 8 = .ok (.iload_n 2, 1) := zd zm_1028 (by decide +kernel)
theorem d_1028_9 {σ : Nat → Nat} {n0 : Nat} {bf : ab_B} : decode (ab_code (zx σ n0 bf).1 1028) 9 = .ok (.invokevirtual 313, 3) := zd zm_1028 (by decide +kernel)
theorem d_1028_12 {σ : Nat → Nat} {n0 : Nat} {bf : ab_B} : decode (ab_code (zx σ n0 bf).1 1028) 12 = .ok (.l2i, 1) := zd zm_1028 (by decide +kernel)
theorem d_1028_13 {σ : Nat → Nat} {n0 : Nat} {bf : ab_B} : decode (ab_code (zx σ n0 bf).1 1028) 13 = .ok (.ireturn, 1) := zd zm_1028 (by decide +kernel)
def w_X2_sizeOf (X : zs_X) (d : Nat) (p0 : Nat) (p1 : Option Nat) (p2 : Int32) (S : zs_T) (Q : zs_Q) : Prop :=
  (zs_K S p0 = some (.inl 1) ∧ ∃ b2, p1 = some b2 ∧ zs_K S b2 = some (.inl 6) ∧ zs_C X d 6003 [.ref b2] S (zs_kR (fun v6 S5 => (∃ b7, (zs_R S 1004 p0) = some b7 ∧ zs_K S5 b7 = some (.inl 2) ∧ zs_C X d 2012 [.ref b7, va_rf v6, .int p2] S5 (zs_kJ (fun v11 S10 => (Q (.returned (some (.int ((v11).toInt32)))) S10)) Q))) Q))
theorem u_X2_sizeOf {σ : Nat → Nat} {n0 : Nat} {bf : ab_B} {d : Nat} {p0 : Nat} {p1 : Option Nat} {p2 : Int32} {S : zs_T} {Q : zs_Q} (hB : zt_B bf) (hd : 1 ≤ d) (h : w_X2_sizeOf (zx σ n0 bf) (d - 1) p0 p1 p2 S Q) : zs_C (zx σ n0 bf) d 1028 [.ref p0, va_rf p1, .int p2] S Q := by
  have hL : lv_args 0 [.ref p0, va_rf p1, .int p2] = [(0, .ref p0), (1, va_rf p1), (2, .int p2)] := by simp [lv_args, zs_cat, zs_cI, zs_cJ, zs_cA]
  refine zs_C.of1 (hB.2 1028 (by decide) (by decide)) hd (by rw [hL]; exact zs_sub_self _ (by exact ⟨rfl, rfl, rfl, trivial⟩)) ?_
  rw [hL]
  clear hL
  unfold w_X2_sizeOf at h
  refine zu_aload_n d_1028_0 rfl (zs_ra _) ?_
  obtain ⟨k1, h⟩ := h
  refine zg_1_31 rfl d_1028_1 k1 ?_
  refine zu_aload_n d_1028_4 rfl (zs_rr _) ?_
  obtain ⟨b2, e3, h⟩ := h
  refine zs_stk0 (zs_rfe e3) ?_
  obtain ⟨k4, h⟩ := h
  refine zc_1_415  hB rfl k4 d_1028_5 (by simp only [List.map_cons, List.map_nil, List.sum_cons, List.sum_nil, zs_cat, zs_cI, zs_cJ, zs_cA]; exact Nat.le_of_ble_eq_true rfl) h (fun v6 S5 h => ?_)
  refine zu_iload_n d_1028_8 rfl ?_
  obtain ⟨b7, e8, h⟩ := h
  refine zs_stk2 (zs_rfe e8) ?_
  obtain ⟨k9, h⟩ := h
  refine zc_1_313 (x0 := v6) (x1 := p2) hB rfl k9 d_1028_9 (Nat.le_of_ble_eq_true rfl) h (fun v11 S10 h => ?_)
  refine zu_stk d_1028_12 rfl rfl ?_
  exact zu_iret d_1028_13 zr_1028 rfl h
/-! SchemaPascal$Machine.copyCells(III)V -/
theorem zm_1029 {σ : Nat → Nat} {n0 : Nat} {bf : ab_B} : ab_code (zx σ n0 bf).1 1029 = prog_5_method_30_code := rfl
theorem zq_1029 {σ : Nat → Nat} {n0 : Nat} {bf : ab_B} : ab_maxL (zx σ n0 bf).1 1029 = 5 := rfl
theorem zr_1029 {σ : Nat → Nat} {n0 : Nat} {bf : ab_B} : ab_ret (zx σ n0 bf).1 1029 = (Option.none : Option Jvm.ClassFile.FieldType) := rfl
theorem d_1029_0 {σ : Nat → Nat} {n0 : Nat} {bf : ab_B} : decode (ab_code (zx σ n0 bf).1 1029) 0 = .ok (.iconst 0, 1) := zd zm_1029 (by decide +kernel)
theorem d_1029_1 {σ : Nat → Nat} {n0 : Nat} {bf : ab_B} : decode (ab_code (zx σ n0 bf).1 1029) 1 = .ok (.istore 4, 2) := zd zm_1029 (by decide +kernel)
theorem d_1029_3 {σ : Nat → Nat} {n0 : Nat} {bf : ab_B} : decode (ab_code (zx σ n0 bf).1 1029) 3 = .ok (.iload 4, 2) := zd zm_1029 (by decide +kernel)
theorem d_1029_5 {σ : Nat → Nat} {n0 : Nat} {bf : ab_B} : decode (ab_code (zx σ n0 bf).1 1029) 5 = .ok (.iload_n 3, 1) := zd zm_1029 (by decide +kernel)
theorem d_1029_6 {σ : Nat → Nat} {n0 : Nat} {bf : ab_B} : decode (ab_code (zx σ n0 bf).1 1029) 6 = .ok (.if_icmp .ge 63, 3) := zd zm_1029 (by decide +kernel)
theorem d_1029_9 {σ : Nat → Nat} {n0 : Nat} {bf : ab_B} : decode (ab_code (zx σ n0 bf).1 1029) 9 = .ok (.aload_n 0, 1) := zd zm_1029 (by decide +kernel)
theorem d_1029_10 {σ : Nat → Nat} {n0 : Nat} {bf : ab_B} : decode (ab_code (zx σ n0 bf).1 1029) 10 = .ok (.getfield 10, 3) := zd zm_1029 (by decide +kernel)
theorem d_1029_13 {σ : Nat → Nat} {n0 : Nat} {bf : ab_B} : decode (ab_code (zx σ n0 bf).1 1029) 13 = .ok (.iload_n 2, 1) := zd zm_1029 (by decide +kernel)
theorem d_1029_14 {σ : Nat → Nat} {n0 : Nat} {bf : ab_B} : decode (ab_code (zx σ n0 bf).1 1029) 14 = .ok (.iload 4, 2) := zd zm_1029 (by decide +kernel)
theorem d_1029_16 {σ : Nat → Nat} {n0 : Nat} {bf : ab_B} : decode (ab_code (zx σ n0 bf).1 1029) 16 = .ok (.iadd, 1) := zd zm_1029 (by decide +kernel)
theorem d_1029_17 {σ : Nat → Nat} {n0 : Nat} {bf : ab_B} : decode (ab_code (zx σ n0 bf).1 1029) 17 = .ok (.aload_n 0, 1) := zd zm_1029 (by decide +kernel)
theorem d_1029_18 {σ : Nat → Nat} {n0 : Nat} {bf : ab_B} : decode (ab_code (zx σ n0 bf).1 1029) 18 = .ok (.getfield 10, 3) := zd zm_1029 (by decide +kernel)
theorem d_1029_21 {σ : Nat → Nat} {n0 : Nat} {bf : ab_B} : decode (ab_code (zx σ n0 bf).1 1029) 21 = .ok (.iload_n 1, 1) := zd zm_1029 (by decide +kernel)
theorem d_1029_22 {σ : Nat → Nat} {n0 : Nat} {bf : ab_B} : decode (ab_code (zx σ n0 bf).1 1029) 22 = .ok (.iload 4, 2) := zd zm_1029 (by decide +kernel)
theorem d_1029_24 {σ : Nat → Nat} {n0 : Nat} {bf : ab_B} : decode (ab_code (zx σ n0 bf).1 1029) 24 = .ok (.iadd, 1) := zd zm_1029 (by decide +kernel)
theorem d_1029_25 {σ : Nat → Nat} {n0 : Nat} {bf : ab_B} : decode (ab_code (zx σ n0 bf).1 1029) 25 = .ok (.laload, 1) := zd zm_1029 (by decide +kernel)
theorem d_1029_26 {σ : Nat → Nat} {n0 : Nat} {bf : ab_B} : decode (ab_code (zx σ n0 bf).1 1029) 26 = .ok (.lastore, 1) := zd zm_1029 (by decide +kernel)
theorem d_1029_27 {σ : Nat → Nat} {n0 : Nat} {bf : ab_B} : decode (ab_code (zx σ n0 bf).1 1029) 27 = .ok (.aload_n 0, 1) := zd zm_1029 (by decide +kernel)
theorem d_1029_28 {σ : Nat → Nat} {n0 : Nat} {bf : ab_B} : decode (ab_code (zx σ n0 bf).1 1029) 28 = .ok (.getfield 21, 3) := zd zm_1029 (by decide +kernel)
theorem d_1029_31 {σ : Nat → Nat} {n0 : Nat} {bf : ab_B} : decode (ab_code (zx σ n0 bf).1 1029) 31 = .ok (.iload_n 2, 1) := zd zm_1029 (by decide +kernel)
theorem d_1029_32 {σ : Nat → Nat} {n0 : Nat} {bf : ab_B} : decode (ab_code (zx σ n0 bf).1 1029) 32 = .ok (.iload 4, 2) := zd zm_1029 (by decide +kernel)
theorem d_1029_34 {σ : Nat → Nat} {n0 : Nat} {bf : ab_B} : decode (ab_code (zx σ n0 bf).1 1029) 34 = .ok (.iadd, 1) := zd zm_1029 (by decide +kernel)
theorem d_1029_35 {σ : Nat → Nat} {n0 : Nat} {bf : ab_B} : decode (ab_code (zx σ n0 bf).1 1029) 35 = .ok (.aload_n 0, 1) := zd zm_1029 (by decide +kernel)
theorem d_1029_36 {σ : Nat → Nat} {n0 : Nat} {bf : ab_B} : decode (ab_code (zx σ n0 bf).1 1029) 36 = .ok (.getfield 21, 3) := zd zm_1029 (by decide +kernel)
theorem d_1029_39 {σ : Nat → Nat} {n0 : Nat} {bf : ab_B} : decode (ab_code (zx σ n0 bf).1 1029) 39 = .ok (.iload_n 1, 1) := zd zm_1029 (by decide +kernel)
theorem d_1029_40 {σ : Nat → Nat} {n0 : Nat} {bf : ab_B} : decode (ab_code (zx σ n0 bf).1 1029) 40 = .ok (.iload 4, 2) := zd zm_1029 (by decide +kernel)
theorem d_1029_42 {σ : Nat → Nat} {n0 : Nat} {bf : ab_B} : decode (ab_code (zx σ n0 bf).1 1029) 42 = .ok (.iadd, 1) := zd zm_1029 (by decide +kernel)
theorem d_1029_43 {σ : Nat → Nat} {n0 : Nat} {bf : ab_B} : decode (ab_code (zx σ n0 bf).1 1029) 43 = .ok (.iaload, 1) := zd zm_1029 (by decide +kernel)
theorem d_1029_44 {σ : Nat → Nat} {n0 : Nat} {bf : ab_B} : decode (ab_code (zx σ n0 bf).1 1029) 44 = .ok (.iastore, 1) := zd zm_1029 (by decide +kernel)
theorem d_1029_45 {σ : Nat → Nat} {n0 : Nat} {bf : ab_B} : decode (ab_code (zx σ n0 bf).1 1029) 45 = .ok (.aload_n 0, 1) := zd zm_1029 (by decide +kernel)
theorem d_1029_46 {σ : Nat → Nat} {n0 : Nat} {bf : ab_B} : decode (ab_code (zx σ n0 bf).1 1029) 46 = .ok (.getfield 17, 3) := zd zm_1029 (by decide +kernel)
theorem d_1029_49 {σ : Nat → Nat} {n0 : Nat} {bf : ab_B} : decode (ab_code (zx σ n0 bf).1 1029) 49 = .ok (.iload_n 2, 1) := zd zm_1029 (by decide +kernel)
theorem d_1029_50 {σ : Nat → Nat} {n0 : Nat} {bf : ab_B} : decode (ab_code (zx σ n0 bf).1 1029) 50 = .ok (.iload 4, 2) := zd zm_1029 (by decide +kernel)
theorem d_1029_52 {σ : Nat → Nat} {n0 : Nat} {bf : ab_B} : decode (ab_code (zx σ n0 bf).1 1029) 52 = .ok (.iadd, 1) := zd zm_1029 (by decide +kernel)
theorem d_1029_53 {σ : Nat → Nat} {n0 : Nat} {bf : ab_B} : decode (ab_code (zx σ n0 bf).1 1029) 53 = .ok (.aload_n 0, 1) := zd zm_1029 (by decide +kernel)
theorem d_1029_54 {σ : Nat → Nat} {n0 : Nat} {bf : ab_B} : decode (ab_code (zx σ n0 bf).1 1029) 54 = .ok (.getfield 17, 3) := zd zm_1029 (by decide +kernel)
theorem d_1029_57 {σ : Nat → Nat} {n0 : Nat} {bf : ab_B} : decode (ab_code (zx σ n0 bf).1 1029) 57 = .ok (.iload_n 1, 1) := zd zm_1029 (by decide +kernel)
theorem d_1029_58 {σ : Nat → Nat} {n0 : Nat} {bf : ab_B} : decode (ab_code (zx σ n0 bf).1 1029) 58 = .ok (.iload 4, 2) := zd zm_1029 (by decide +kernel)
theorem d_1029_60 {σ : Nat → Nat} {n0 : Nat} {bf : ab_B} : decode (ab_code (zx σ n0 bf).1 1029) 60 = .ok (.iadd, 1) := zd zm_1029 (by decide +kernel)
theorem d_1029_61 {σ : Nat → Nat} {n0 : Nat} {bf : ab_B} : decode (ab_code (zx σ n0 bf).1 1029) 61 = .ok (.baload, 1) := zd zm_1029 (by decide +kernel)
theorem d_1029_62 {σ : Nat → Nat} {n0 : Nat} {bf : ab_B} : decode (ab_code (zx σ n0 bf).1 1029) 62 = .ok (.bastore, 1) := zd zm_1029 (by decide +kernel)
theorem d_1029_63 {σ : Nat → Nat} {n0 : Nat} {bf : ab_B} : decode (ab_code (zx σ n0 bf).1 1029) 63 = .ok (.iinc 4 1, 3) := zd zm_1029 (by decide +kernel)
theorem d_1029_66 {σ : Nat → Nat} {n0 : Nat} {bf : ab_B} : decode (ab_code (zx σ n0 bf).1 1029) 66 = .ok (.goto (-63), 3) := zd zm_1029 (by decide +kernel)
theorem d_1029_69 {σ : Nat → Nat} {n0 : Nat} {bf : ab_B} : decode (ab_code (zx σ n0 bf).1 1029) 69 = .ok (.return_, 1) := zd zm_1029 (by decide +kernel)
def w_X2_copyCells_45 (X : zs_X) (d : Nat) (p0 : Nat) (p1 : Int32) (p2 : Int32) (p3 : Int32) (p4 : Int32) (S : zs_T) (Q : zs_Q) : Prop :=
  (zs_K S p0 = some (.inl 1) ∧ ∃ b2, (zs_R S 1002 p0) = some b2 ∧ zs_A S b2 2 (p1 + p4) ∧ zs_A S b2 2 (p2 + p4) ∧ ab_n0 X.1 ≤ b2 ∧ ∀ S7, S7 = zs_si S b2 (p2 + p4).toNatClampNeg (vp_nar .boolean (zs_i S b2 (p1 + p4).toNatClampNeg)) → zs_U X d 1029 3 [(0, .ref p0), (1, .int p1), (2, .int p2), (3, .int p3), (4, .int (p4 + (1 : Int32)))] [] S7 Q)
theorem u_X2_copyCells_45 {σ : Nat → Nat} {n0 : Nat} {bf : ab_B} {d : Nat} {p0 : Nat} {p1 : Int32} {p2 : Int32} {p3 : Int32} {p4 : Int32} {S : zs_T} {Q : zs_Q} (hB : zt_B bf) (h : w_X2_copyCells_45 (zx σ n0 bf) d p0 p1 p2 p3 p4 S Q) : zs_U (zx σ n0 bf) d 1029 45 [(0, .ref p0), (1, .int p1), (2, .int p2), (3, .int p3), (4, .int p4)] [] S Q := by
  unfold w_X2_copyCells_45 at h
  refine zu_aload_n d_1029_45 rfl (zs_ra _) ?_
  obtain ⟨k1, h⟩ := h
  refine zg_1_17 rfl d_1029_46 k1 ?_
  refine zu_iload_n d_1029_49 rfl ?_
  refine zu_iload d_1029_50 rfl ?_
  refine zu_stk d_1029_52 rfl rfl ?_
  refine zu_aload_n d_1029_53 rfl (zs_ra _) ?_
  refine zg_1_17 rfl d_1029_54 k1 ?_
  refine zu_iload_n d_1029_57 rfl ?_
  refine zu_iload d_1029_58 rfl ?_
  refine zu_stk d_1029_60 rfl rfl ?_
  obtain ⟨b2, e3, h⟩ := h
  refine zs_stk1 (zs_rfe e3) ?_
  obtain ⟨k4, h⟩ := h
  refine zu_bald (k := 2) d_1029_61 rfl (Or.inr rfl) k4 ?_
  refine zs_stk2 (zs_rfe e3) ?_
  obtain ⟨k5, h⟩ := h
  obtain ⟨k6, h⟩ := h
  refine zu_bast_bool (k := 2) d_1029_62 rfl rfl k6 k5 ?_
  generalize e8 : zs_si S b2 (p2 + p4).toNatClampNeg (vp_nar .boolean (zs_i S b2 (p1 + p4).toNatClampNeg)) = S7
  have h := h S7 e8.symm
  have K9 : ∀ b, zs_K S7 b = zs_K S b := zs_Kt e8 (zs_Ksi _ _ _ _) (fun _ => rfl)
  refine zu_iinc d_1029_63 rfl zi_1 (zs_lt zq_1029 rfl) ?_
  refine zu_goto (t := 3) d_1029_66 rfl ?_
  exact h.weak ⟨rfl, rfl, rfl, rfl, rfl, trivial⟩
def w_X2_copyCells_3 (X : zs_X) (d : Nat) (p0 : Nat) (p1 : Int32) (p2 : Int32) (p3 : Int32) (p4 : Int32) (S : zs_T) (Q : zs_Q) : Prop :=
  (((p3 ≤ p4 → (Q (.returned none) S)) ∧ (¬ (p3 ≤ p4) → (zs_K S p0 = some (.inl 1) ∧ ∃ b3, (zs_R S 1001 p0) = some b3 ∧ zs_A S b3 3 (p1 + p4) ∧ zs_A S b3 3 (p2 + p4) ∧ ab_n0 X.1 ≤ b3 ∧ ∀ S8, S8 = zs_sj S b3 (p2 + p4).toNatClampNeg (zs_j S b3 (p1 + p4).toNatClampNeg) → ∃ b11, (zs_R S8 1003 p0) = some b11 ∧ zs_A S b11 0 (p1 + p4) ∧ zs_A S b11 0 (p2 + p4) ∧ ab_n0 X.1 ≤ b11 ∧ ∀ S16, S16 = zs_si S8 b11 (p2 + p4).toNatClampNeg (zs_i S8 b11 (p1 + p4).toNatClampNeg) → w_X2_copyCells_45 X d p0 p1 p2 p3 p4 S16 Q))))
theorem u_X2_copyCells_3 {σ : Nat → Nat} {n0 : Nat} {bf : ab_B} {d : Nat} {p0 : Nat} {p1 : Int32} {p2 : Int32} {p3 : Int32} {p4 : Int32} {S : zs_T} {Q : zs_Q} (hB : zt_B bf) (h : w_X2_copyCells_3 (zx σ n0 bf) d p0 p1 p2 p3 p4 S Q) : zs_U (zx σ n0 bf) d 1029 3 [(0, .ref p0), (1, .int p1), (2, .int p2), (3, .int p3), (4, .int p4)] [] S Q := by
  unfold w_X2_copyCells_3 at h
  refine zu_iload d_1029_3 rfl ?_
  refine zu_iload_n d_1029_5 rfl ?_
  refine zu_cmpge (t := 69) d_1029_6 rfl (fun c1 => ?_) (fun c1 => ?_)
  · have h := h.1 c1
    exact zu_vret d_1029_69 zr_1029 h
  · have h := h.2 c1
    refine zu_aload_n d_1029_9 rfl (zs_ra _) ?_
    obtain ⟨k2, h⟩ := h
    refine zg_1_10 rfl d_1029_10 k2 ?_
    refine zu_iload_n d_1029_13 rfl ?_
    refine zu_iload d_1029_14 rfl ?_
    refine zu_stk d_1029_16 rfl rfl ?_
    refine zu_aload_n d_1029_17 rfl (zs_ra _) ?_
    refine zg_1_10 rfl d_1029_18 k2 ?_
    refine zu_iload_n d_1029_21 rfl ?_
    refine zu_iload d_1029_22 rfl ?_
    refine zu_stk d_1029_24 rfl rfl ?_
    obtain ⟨b3, e4, h⟩ := h
    refine zs_stk1 (zs_rfe e4) ?_
    obtain ⟨k5, h⟩ := h
    refine zu_lald (k := 3) d_1029_25 rfl rfl k5 ?_
    refine zs_stk2 (zs_rfe e4) ?_
    obtain ⟨k6, h⟩ := h
    obtain ⟨k7, h⟩ := h
    refine zu_last (k := 3) d_1029_26 rfl rfl k7 k6 ?_
    generalize e9 : zs_sj S b3 (p2 + p4).toNatClampNeg (zs_j S b3 (p1 + p4).toNatClampNeg) = S8
    have h := h S8 e9.symm
    have K10 : ∀ b, zs_K S8 b = zs_K S b := zs_Kt e9 (zs_Ksj _ _ _ _) (fun _ => rfl)
    refine zu_aload_n d_1029_27 rfl (zs_ra _) ?_
    refine zg_1_21 rfl d_1029_28 ((K10 _).trans k2) ?_
    refine zu_iload_n d_1029_31 rfl ?_
    refine zu_iload d_1029_32 rfl ?_
    refine zu_stk d_1029_34 rfl rfl ?_
    refine zu_aload_n d_1029_35 rfl (zs_ra _) ?_
    refine zg_1_21 rfl d_1029_36 ((K10 _).trans k2) ?_
    refine zu_iload_n d_1029_39 rfl ?_
    refine zu_iload d_1029_40 rfl ?_
    refine zu_stk d_1029_42 rfl rfl ?_
    obtain ⟨b11, e12, h⟩ := h
    refine zs_stk1 (zs_rfe e12) ?_
    obtain ⟨k13, h⟩ := h
    refine zu_iald (k := 0) d_1029_43 rfl rfl (zs_Ak K10 k13) ?_
    refine zs_stk2 (zs_rfe e12) ?_
    obtain ⟨k14, h⟩ := h
    obtain ⟨k15, h⟩ := h
    refine zu_iast (k := 0) d_1029_44 rfl rfl k15 (zs_Ak K10 k14) ?_
    generalize e17 : zs_si S8 b11 (p2 + p4).toNatClampNeg (zs_i S8 b11 (p1 + p4).toNatClampNeg) = S16
    have h := h S16 e17.symm
    have K18 : ∀ b, zs_K S16 b = zs_K S b := zs_Kt e17 (zs_Ksi _ _ _ _) K10
    exact (u_X2_copyCells_45 hB h).weak ⟨rfl, rfl, rfl, rfl, rfl, trivial⟩
def w_X2_copyCells (X : zs_X) (d : Nat) (p0 : Nat) (p1 : Int32) (p2 : Int32) (p3 : Int32) (S : zs_T) (Q : zs_Q) : Prop :=
  (zs_U X d 1029 3 [(0, .ref p0), (1, .int p1), (2, .int p2), (3, .int p3), (4, .int (0 : Int32))] [] S Q)
theorem u_X2_copyCells {σ : Nat → Nat} {n0 : Nat} {bf : ab_B} {d : Nat} {p0 : Nat} {p1 : Int32} {p2 : Int32} {p3 : Int32} {S : zs_T} {Q : zs_Q} (hB : zt_B bf) (hd : 1 ≤ d) (h : w_X2_copyCells (zx σ n0 bf) (d - 1) p0 p1 p2 p3 S Q) : zs_C (zx σ n0 bf) d 1029 [.ref p0, .int p1, .int p2, .int p3] S Q := by
  have hL : lv_args 0 [.ref p0, .int p1, .int p2, .int p3] = [(0, .ref p0), (1, .int p1), (2, .int p2), (3, .int p3)] := rfl
  refine zs_C.of1 (hB.2 1029 (by decide) (by decide)) hd (by rw [hL]; exact zs_sub_self _ (by exact ⟨rfl, rfl, rfl, rfl, trivial⟩)) ?_
  rw [hL]
  clear hL
  unfold w_X2_copyCells at h
  refine zu_iconst d_1029_0 zi_0 ?_
  refine zu_istore d_1029_1 (zs_lt zq_1029 rfl) ?_
  exact h.weak ⟨rfl, rfl, rfl, rfl, rfl, trivial⟩
/-! SchemaPascal$Machine.refer(III)V -/
theorem zm_1030 {σ : Nat → Nat} {n0 : Nat} {bf : ab_B} : ab_code (zx σ n0 bf).1 1030 = prog_5_method_32_code := rfl
theorem zq_1030 {σ : Nat → Nat} {n0 : Nat} {bf : ab_B} : ab_maxL (zx σ n0 bf).1 1030 = 5 := rfl
theorem zr_1030 {σ : Nat → Nat} {n0 : Nat} {bf : ab_B} : ab_ret (zx σ n0 bf).1 1030 = (Option.none : Option Jvm.ClassFile.FieldType) := rfl
theorem d_1030_0 {σ : Nat → Nat} {n0 : Nat} {bf : ab_B} : decode (ab_code (zx σ n0 bf).1 1030) 0 = .ok (.aload_n 0, 1) := zd zm_1030 (by decide +kernel)
theorem d_1030_1 {σ : Nat → Nat} {n0 : Nat} {bf : ab_B} : decode (ab_code (zx σ n0 bf).1 1030) 1 = .ok (.getfield 49, 3) := zd zm_1030 (by decide +kernel)
theorem d_1030_4 {σ : Nat → Nat} {n0 : Nat} {bf : ab_B} : decode (ab_code (zx σ n0 bf).1 1030) 4 = .ok (.iload_n 1, 1) := zd zm_1030 (by decide +kernel)
theorem d_1030_5 {σ : Nat → Nat} {n0 : Nat} {bf : ab_B} : decode (ab_code (zx σ n0 bf).1 1030) 5 = .ok (.iload_n 2, 1) := zd zm_1030 (by decide +kernel)
theorem d_1030_6 {σ : Nat → Nat} {n0 : Nat} {bf : ab_B} : decode (ab_code (zx σ n0 bf).1 1030) 6 = .ok (.iastore, 1) := zd zm_1030 (by decide +kernel)
theorem d_1030_7 {σ : Nat → Nat} {n0 : Nat} {bf : ab_B} : decode (ab_code (zx σ n0 bf).1 1030) 7 = .ok (.aload_n 0, 1) := zd zm_1030 (by decide +kernel)
theorem d_1030_8 {σ : Nat → Nat} {n0 : Nat} {bf : ab_B} : decode (ab_code (zx σ n0 bf).1 1030) 8 = .ok (.getfield 52, 3) := zd zm_1030 (by decide +kernel)
theorem d_1030_11 {σ : Nat → Nat} {n0 : Nat} {bf : ab_B} : decode (ab_code (zx σ n0 bf).1 1030) 11 = .ok (.iload_n 1, 1) := zd zm_1030 (by decide +kernel)
theorem d_1030_12 {σ : Nat → Nat} {n0 : Nat} {bf : ab_B} : decode (ab_code (zx σ n0 bf).1 1030) 12 = .ok (.iload_n 3, 1) := zd zm_1030 (by decide +kernel)
theorem d_1030_13 {σ : Nat → Nat} {n0 : Nat} {bf : ab_B} : decode (ab_code (zx σ n0 bf).1 1030) 13 = .ok (.iastore, 1) := zd zm_1030 (by decide +kernel)
theorem d_1030_14 {σ : Nat → Nat} {n0 : Nat} {bf : ab_B} : decode (ab_code (zx σ n0 bf).1 1030) 14 = .ok (.iload_n 3, 1) := zd zm_1030 (by decide +kernel)
theorem d_1030_15 {σ : Nat → Nat} {n0 : Nat} {bf : ab_B} : decode (ab_code (zx σ n0 bf).1 1030) 15 = .ok (.ldc_w 258, 3) := zd zm_1030 (by decide +kernel)
theorem d_1030_18 {σ : Nat → Nat} {n0 : Nat} {bf : ab_B} : decode (ab_code (zx σ n0 bf).1 1030) 18 = .ok (.if_icmp .ge 4, 3) := zd zm_1030 (by decide +kernel)
theorem d_1030_21 {σ : Nat → Nat} {n0 : Nat} {bf : ab_B} : decode (ab_code (zx σ n0 bf).1 1030) 21 = .ok (.return_, 1) := zd zm_1030 (by decide +kernel)
theorem d_1030_22 {σ : Nat → Nat} {n0 : Nat} {bf : ab_B} : decode (ab_code (zx σ n0 bf).1 1030) 22 = .ok (.aload_n 0, 1) := zd zm_1030 (by decide +kernel)
theorem d_1030_23 {σ : Nat → Nat} {n0 : Nat} {bf : ab_B} : decode (ab_code (zx σ n0 bf).1 1030) 23 = .ok (.getfield 52, 3) := zd zm_1030 (by decide +kernel)
theorem d_1030_26 {σ : Nat → Nat} {n0 : Nat} {bf : ab_B} : decode (ab_code (zx σ n0 bf).1 1030) 26 = .ok (.iload_n 1, 1) := zd zm_1030 (by decide +kernel)
theorem d_1030_27 {σ : Nat → Nat} {n0 : Nat} {bf : ab_B} : decode (ab_code (zx σ n0 bf).1 1030) 27 = .ok (.ldc 16, 2) := zd zm_1030 (by decide +kernel)
theorem d_1030_29 {σ : Nat → Nat} {n0 : Nat} {bf : ab_B} : decode (ab_code (zx σ n0 bf).1 1030) 29 = .ok (.iconst 4, 1) := zd zm_1030 (by decide +kernel)
theorem d_1030_30 {σ : Nat → Nat} {n0 : Nat} {bf : ab_B} : decode (ab_code (zx σ n0 bf).1 1030) 30 = .ok (.iload_n 1, 1) := zd zm_1030 (by decide +kernel)
theorem d_1030_31 {σ : Nat → Nat} {n0 : Nat} {bf : ab_B} : decode (ab_code (zx σ n0 bf).1 1030) 31 = .ok (.imul, 1) := zd zm_1030 (by decide +kernel)
theorem d_1030_32 {σ : Nat → Nat} {n0 : Nat} {bf : ab_B} : decode (ab_code (zx σ n0 bf).1 1030) 32 = .ok (.iadd, 1) := zd zm_1030 (by decide +kernel)
theorem d_1030_33 {σ : Nat → Nat} {n0 : Nat} {bf : ab_B} : decode (ab_code (zx σ n0 bf).1 1030) 33 = .ok (.iastore, 1) := zd zm_1030 (by decide +kernel)
theorem d_1030_34 {σ : Nat → Nat} {n0 : Nat} {bf : ab_B} : decode (ab_code (zx σ n0 bf).1 1030) 34 = .ok (.iconst 0, 1) := zd zm_1030 (by decide +kernel)
theorem d_1030_35 {σ : Nat → Nat} {n0 : Nat} {bf : ab_B} : decode (ab_code (zx σ n0 bf).1 1030) 35 = .ok (.istore 4, 2) := zd zm_1030 (by decide +kernel)
theorem d_1030_37 {σ : Nat → Nat} {n0 : Nat} {bf : ab_B} : decode (ab_code (zx σ n0 bf).1 1030) 37 = .ok (.iload 4, 2) := zd zm_1030 (by decide +kernel)
theorem d_1030_39 {σ : Nat → Nat} {n0 : Nat} {bf : ab_B} : decode (ab_code (zx σ n0 bf).1 1030) 39 = .ok (.iconst 4, 1) := zd zm_1030 (by decide +kernel)
theorem d_1030_40 {σ : Nat → Nat} {n0 : Nat} {bf : ab_B} : decode (ab_code (zx σ n0 bf).1 1030) 40 = .ok (.if_icmp .ge 32, 3) := zd zm_1030 (by decide +kernel)
theorem d_1030_43 {σ : Nat → Nat} {n0 : Nat} {bf : ab_B} : decode (ab_code (zx σ n0 bf).1 1030) 43 = .ok (.aload_n 0, 1) := zd zm_1030 (by decide +kernel)
theorem d_1030_44 {σ : Nat → Nat} {n0 : Nat} {bf : ab_B} : decode (ab_code (zx σ n0 bf).1 1030) 44 = .ok (.getfield 10, 3) := zd zm_1030 (by decide +kernel)
theorem d_1030_47 {σ : Nat → Nat} {n0 : Nat} {bf : ab_B} : decode (ab_code (zx σ n0 bf).1 1030) 47 = .ok (.ldc 16, 2) := zd zm_1030 (by decide +kernel)
theorem d_1030_49 {σ : Nat → Nat} {n0 : Nat} {bf : ab_B} : decode (ab_code (zx σ n0 bf).1 1030) 49 = .ok (.iconst 4, 1) := zd zm_1030 (by decide +kernel)
theorem d_1030_50 {σ : Nat → Nat} {n0 : Nat} {bf : ab_B} : decode (ab_code (zx σ n0 bf).1 1030) 50 = .ok (.iload_n 1, 1) := zd zm_1030 (by decide +kernel)
theorem d_1030_51 {σ : Nat → Nat} {n0 : Nat} {bf : ab_B} : decode (ab_code (zx σ n0 bf).1 1030) 51 = .ok (.imul, 1) := zd zm_1030 (by decide +kernel)
theorem d_1030_52 {σ : Nat → Nat} {n0 : Nat} {bf : ab_B} : decode (ab_code (zx σ n0 bf).1 1030) 52 = .ok (.iadd, 1) := zd zm_1030 (by decide +kernel)
theorem d_1030_53 {σ : Nat → Nat} {n0 : Nat} {bf : ab_B} : decode (ab_code (zx σ n0 bf).1 1030) 53 = .ok (.iload 4, 2) := zd zm_1030 (by decide +kernel)
theorem d_1030_55 {σ : Nat → Nat} {n0 : Nat} {bf : ab_B} : decode (ab_code (zx σ n0 bf).1 1030) 55 = .ok (.iadd, 1) := zd zm_1030 (by decide +kernel)
theorem d_1030_56 {σ : Nat → Nat} {n0 : Nat} {bf : ab_B} : decode (ab_code (zx σ n0 bf).1 1030) 56 = .ok (.aload_n 0, 1) := zd zm_1030 (by decide +kernel)
theorem d_1030_57 {σ : Nat → Nat} {n0 : Nat} {bf : ab_B} : decode (ab_code (zx σ n0 bf).1 1030) 57 = .ok (.getfield 10, 3) := zd zm_1030 (by decide +kernel)
theorem d_1030_60 {σ : Nat → Nat} {n0 : Nat} {bf : ab_B} : decode (ab_code (zx σ n0 bf).1 1030) 60 = .ok (.iload_n 3, 1) := zd zm_1030 (by decide +kernel)
theorem d_1030_61 {σ : Nat → Nat} {n0 : Nat} {bf : ab_B} : decode (ab_code (zx σ n0 bf).1 1030) 61 = .ok (.iload 4, 2) := zd zm_1030 (by decide +kernel)
theorem d_1030_63 {σ : Nat → Nat} {n0 : Nat} {bf : ab_B} : decode (ab_code (zx σ n0 bf).1 1030) 63 = .ok (.iadd, 1) := zd zm_1030 (by decide +kernel)
theorem d_1030_64 {σ : Nat → Nat} {n0 : Nat} {bf : ab_B} : decode (ab_code (zx σ n0 bf).1 1030) 64 = .ok (.laload, 1) := zd zm_1030 (by decide +kernel)
theorem d_1030_65 {σ : Nat → Nat} {n0 : Nat} {bf : ab_B} : decode (ab_code (zx σ n0 bf).1 1030) 65 = .ok (.lastore, 1) := zd zm_1030 (by decide +kernel)
theorem d_1030_66 {σ : Nat → Nat} {n0 : Nat} {bf : ab_B} : decode (ab_code (zx σ n0 bf).1 1030) 66 = .ok (.iinc 4 1, 3) := zd zm_1030 (by decide +kernel)
theorem d_1030_69 {σ : Nat → Nat} {n0 : Nat} {bf : ab_B} : decode (ab_code (zx σ n0 bf).1 1030) 69 = .ok (.goto (-32), 3) := zd zm_1030 (by decide +kernel)
theorem d_1030_72 {σ : Nat → Nat} {n0 : Nat} {bf : ab_B} : decode (ab_code (zx σ n0 bf).1 1030) 72 = .ok (.return_, 1) := zd zm_1030 (by decide +kernel)
def w_X2_refer_34 (X : zs_X) (d : Nat) (p0 : Nat) (p1 : Int32) (p3 : Int32) (S : zs_T) (Q : zs_Q) : Prop :=
  (zs_U X d 1030 37 [(0, .ref p0), (1, .int p1), (3, .int p3), (4, .int (0 : Int32))] [] S Q)
theorem u_X2_refer_34 {σ : Nat → Nat} {n0 : Nat} {bf : ab_B} {d : Nat} {p0 : Nat} {p1 : Int32} {p3 : Int32} {S : zs_T} {Q : zs_Q} (hB : zt_B bf) (h : w_X2_refer_34 (zx σ n0 bf) d p0 p1 p3 S Q) : zs_U (zx σ n0 bf) d 1030 34 [(0, .ref p0), (1, .int p1), (3, .int p3)] [] S Q := by
  unfold w_X2_refer_34 at h
  refine zu_iconst d_1030_34 zi_0 ?_
  refine zu_istore d_1030_35 (zs_lt zq_1030 rfl) ?_
  exact h.weak ⟨rfl, rfl, rfl, rfl, trivial⟩
def w_X2_refer_66 (X : zs_X) (d : Nat) (p0 : Nat) (p1 : Int32) (p3 : Int32) (p4 : Int32) (S : zs_T) (Q : zs_Q) : Prop :=
  (zs_U X d 1030 37 [(0, .ref p0), (1, .int p1), (3, .int p3), (4, .int (p4 + (1 : Int32)))] [] S Q)
theorem u_X2_refer_66 {σ : Nat → Nat} {n0 : Nat} {bf : ab_B} {d : Nat} {p0 : Nat} {p1 : Int32} {p3 : Int32} {p4 : Int32} {S : zs_T} {Q : zs_Q} (hB : zt_B bf) (h : w_X2_refer_66 (zx σ n0 bf) d p0 p1 p3 p4 S Q) : zs_U (zx σ n0 bf) d 1030 66 [(0, .ref p0), (1, .int p1), (3, .int p3), (4, .int p4)] [] S Q := by
  unfold w_X2_refer_66 at h
  refine zu_iinc d_1030_66 rfl zi_1 (zs_lt zq_1030 rfl) ?_
  refine zu_goto (t := 37) d_1030_69 rfl ?_
  exact h.weak ⟨rfl, rfl, rfl, rfl, trivial⟩
def w_X2_refer_37 (X : zs_X) (d : Nat) (p0 : Nat) (p1 : Int32) (p3 : Int32) (p4 : Int32) (S : zs_T) (Q : zs_Q) : Prop :=
  ((((4 : Int32) ≤ p4 → (Q (.returned none) S)) ∧ (¬ ((4 : Int32) ≤ p4) → (zs_K S p0 = some (.inl 1) ∧ ∃ b3, (zs_R S 1001 p0) = some b3 ∧ zs_A S b3 3 (p3 + p4) ∧ zs_A S b3 3 (((40000 : Int32) + ((4 : Int32) * p1)) + p4) ∧ ab_n0 X.1 ≤ b3 ∧ ∀ S8, S8 = zs_sj S b3 (((40000 : Int32) + ((4 : Int32) * p1)) + p4).toNatClampNeg (zs_j S b3 (p3 + p4).toNatClampNeg) → w_X2_refer_66 X d p0 p1 p3 p4 S8 Q))))
theorem u_X2_refer_37 {σ : Nat → Nat} {n0 : Nat} {bf : ab_B} {d : Nat} {p0 : Nat} {p1 : Int32} {p3 : Int32} {p4 : Int32} {S : zs_T} {Q : zs_Q} (hB : zt_B bf) (h : w_X2_refer_37 (zx σ n0 bf) d p0 p1 p3 p4 S Q) : zs_U (zx σ n0 bf) d 1030 37 [(0, .ref p0), (1, .int p1), (3, .int p3), (4, .int p4)] [] S Q := by
  unfold w_X2_refer_37 at h
  refine zu_iload d_1030_37 rfl ?_
  refine zu_iconst d_1030_39 zi_4 ?_
  refine zu_cmpge (t := 72) d_1030_40 rfl (fun c1 => ?_) (fun c1 => ?_)
  · have h := h.1 c1
    exact zu_vret d_1030_72 zr_1030 h
  · have h := h.2 c1
    refine zu_aload_n d_1030_43 rfl (zs_ra _) ?_
    obtain ⟨k2, h⟩ := h
    refine zg_1_10 rfl d_1030_44 k2 ?_
    refine zl_1_16 rfl d_1030_47 ?_
    refine zu_iconst d_1030_49 zi_4 ?_
    refine zu_iload_n d_1030_50 rfl ?_
    refine zu_stk d_1030_51 rfl rfl ?_
    refine zu_stk d_1030_52 rfl rfl ?_
    refine zu_iload d_1030_53 rfl ?_
    refine zu_stk d_1030_55 rfl rfl ?_
    refine zu_aload_n d_1030_56 rfl (zs_ra _) ?_
    refine zg_1_10 rfl d_1030_57 k2 ?_
    refine zu_iload_n d_1030_60 rfl ?_
    refine zu_iload d_1030_61 rfl ?_
    refine zu_stk d_1030_63 rfl rfl ?_
    obtain ⟨b3, e4, h⟩ := h
    refine zs_stk1 (zs_rfe e4) ?_
    obtain ⟨k5, h⟩ := h
    refine zu_lald (k := 3) d_1030_64 rfl rfl k5 ?_
    refine zs_stk2 (zs_rfe e4) ?_
    obtain ⟨k6, h⟩ := h
    obtain ⟨k7, h⟩ := h
    refine zu_last (k := 3) d_1030_65 rfl rfl k7 k6 ?_
    generalize e9 : zs_sj S b3 (((40000 : Int32) + ((4 : Int32) * p1)) + p4).toNatClampNeg (zs_j S b3 (p3 + p4).toNatClampNeg) = S8
    have h := h S8 e9.symm
    have K10 : ∀ b, zs_K S8 b = zs_K S b := zs_Kt e9 (zs_Ksj _ _ _ _) (fun _ => rfl)
    exact (u_X2_refer_66 hB h).weak ⟨rfl, rfl, rfl, rfl, trivial⟩
def w_X2_refer (X : zs_X) (d : Nat) (p0 : Nat) (p1 : Int32) (p2 : Int32) (p3 : Int32) (S : zs_T) (Q : zs_Q) : Prop :=
  (zs_K S p0 = some (.inl 1) ∧ ∃ b2, (zs_R S 1012 p0) = some b2 ∧ zs_A S b2 0 p1 ∧ ab_n0 X.1 ≤ b2 ∧ ∀ S6, S6 = zs_si S b2 p1.toNatClampNeg p2 → ∃ b9, (zs_R S6 1013 p0) = some b9 ∧ zs_A S b9 0 p1 ∧ ab_n0 X.1 ≤ b9 ∧ ∀ S13, S13 = zs_si S6 b9 p1.toNatClampNeg p3 → (((120004 : Int32) ≤ p3 → (∃ b17, (zs_R S13 1013 p0) = some b17 ∧ zs_A S b17 0 p1 ∧ ab_n0 X.1 ≤ b17 ∧ ∀ S21, S21 = zs_si S13 b17 p1.toNatClampNeg ((40000 : Int32) + ((4 : Int32) * p1)) → w_X2_refer_34 X d p0 p1 p3 S21 Q)) ∧ (¬ ((120004 : Int32) ≤ p3) → (Q (.returned none) S13))))
theorem u_X2_refer {σ : Nat → Nat} {n0 : Nat} {bf : ab_B} {d : Nat} {p0 : Nat} {p1 : Int32} {p2 : Int32} {p3 : Int32} {S : zs_T} {Q : zs_Q} (hB : zt_B bf) (hd : 1 ≤ d) (h : w_X2_refer (zx σ n0 bf) (d - 1) p0 p1 p2 p3 S Q) : zs_C (zx σ n0 bf) d 1030 [.ref p0, .int p1, .int p2, .int p3] S Q := by
  have hL : lv_args 0 [.ref p0, .int p1, .int p2, .int p3] = [(0, .ref p0), (1, .int p1), (2, .int p2), (3, .int p3)] := rfl
  refine zs_C.of1 (hB.2 1030 (by decide) (by decide)) hd (by rw [hL]; exact zs_sub_self _ (by exact ⟨rfl, rfl, rfl, rfl, trivial⟩)) ?_
  rw [hL]
  clear hL
  unfold w_X2_refer at h
  refine zu_aload_n d_1030_0 rfl (zs_ra _) ?_
  obtain ⟨k1, h⟩ := h
  refine zg_1_49 rfl d_1030_1 k1 ?_
  refine zu_iload_n d_1030_4 rfl ?_
  refine zu_iload_n d_1030_5 rfl ?_
  obtain ⟨b2, e3, h⟩ := h
  refine zs_stk2 (zs_rfe e3) ?_
  obtain ⟨k4, h⟩ := h
  obtain ⟨k5, h⟩ := h
  refine zu_iast (k := 0) d_1030_6 rfl rfl k5 k4 ?_
  generalize e7 : zs_si S b2 p1.toNatClampNeg p2 = S6
  have h := h S6 e7.symm
  have K8 : ∀ b, zs_K S6 b = zs_K S b := zs_Kt e7 (zs_Ksi _ _ _ _) (fun _ => rfl)
  refine zu_aload_n d_1030_7 rfl (zs_ra _) ?_
  refine zg_1_52 rfl d_1030_8 ((K8 _).trans k1) ?_
  refine zu_iload_n d_1030_11 rfl ?_
  refine zu_iload_n d_1030_12 rfl ?_
  obtain ⟨b9, e10, h⟩ := h
  refine zs_stk2 (zs_rfe e10) ?_
  obtain ⟨k11, h⟩ := h
  obtain ⟨k12, h⟩ := h
  refine zu_iast (k := 0) d_1030_13 rfl rfl k12 (zs_Ak K8 k11) ?_
  generalize e14 : zs_si S6 b9 p1.toNatClampNeg p3 = S13
  have h := h S13 e14.symm
  have K15 : ∀ b, zs_K S13 b = zs_K S b := zs_Kt e14 (zs_Ksi _ _ _ _) K8
  refine zu_iload_n d_1030_14 rfl ?_
  refine zlw_1_258 rfl d_1030_15 ?_
  refine zu_cmpge (t := 22) d_1030_18 rfl (fun c16 => ?_) (fun c16 => ?_)
  · have h := h.1 c16
    refine zu_aload_n d_1030_22 rfl (zs_ra _) ?_
    refine zg_1_52 rfl d_1030_23 ((K15 _).trans k1) ?_
    refine zu_iload_n d_1030_26 rfl ?_
    refine zl_1_16 rfl d_1030_27 ?_
    refine zu_iconst d_1030_29 zi_4 ?_
    refine zu_iload_n d_1030_30 rfl ?_
    refine zu_stk d_1030_31 rfl rfl ?_
    refine zu_stk d_1030_32 rfl rfl ?_
    obtain ⟨b17, e18, h⟩ := h
    refine zs_stk2 (zs_rfe e18) ?_
    obtain ⟨k19, h⟩ := h
    obtain ⟨k20, h⟩ := h
    refine zu_iast (k := 0) d_1030_33 rfl rfl k20 (zs_Ak K15 k19) ?_
    generalize e22 : zs_si S13 b17 p1.toNatClampNeg ((40000 : Int32) + ((4 : Int32) * p1)) = S21
    have h := h S21 e22.symm
    have K23 : ∀ b, zs_K S21 b = zs_K S b := zs_Kt e22 (zs_Ksi _ _ _ _) K15
    exact (u_X2_refer_34 hB h).weak ⟨rfl, rfl, rfl, trivial⟩
  · have h := h.2 c16
    exact zu_vret d_1030_21 zr_1030 h
/-! SchemaPascal$Machine.reckon(III)V -/
theorem zm_1031 {σ : Nat → Nat} {n0 : Nat} {bf : ab_B} : ab_code (zx σ n0 bf).1 1031 = prog_5_method_34_code := rfl
theorem zq_1031 {σ : Nat → Nat} {n0 : Nat} {bf : ab_B} : ab_maxL (zx σ n0 bf).1 1031 = 8 := rfl
theorem zr_1031 {σ : Nat → Nat} {n0 : Nat} {bf : ab_B} : ab_ret (zx σ n0 bf).1 1031 = (Option.none : Option Jvm.ClassFile.FieldType) := rfl
theorem d_1031_0 {σ : Nat → Nat} {n0 : Nat} {bf : ab_B} : decode (ab_code (zx σ n0 bf).1 1031) 0 = .ok (.iload_n 1, 1) := zd zm_1031 (by decide +kernel)
theorem d_1031_1 {σ : Nat → Nat} {n0 : Nat} {bf : ab_B} : decode (ab_code (zx σ n0 bf).1 1031) 1 = .ok (.bipush 34, 2) := zd zm_1031 (by decide +kernel)
theorem d_1031_3 {σ : Nat → Nat} {n0 : Nat} {bf : ab_B} : decode (ab_code (zx σ n0 bf).1 1031) 3 = .ok (.if_icmp .eq 15, 3) := zd zm_1031 (by decide +kernel)
theorem d_1031_6 {σ : Nat → Nat} {n0 : Nat} {bf : ab_B} : decode (ab_code (zx σ n0 bf).1 1031) 6 = .ok (.iload_n 1, 1) := zd zm_1031 (by decide +kernel)
theorem d_1031_7 {σ : Nat → Nat} {n0 : Nat} {bf : ab_B} : decode (ab_code (zx σ n0 bf).1 1031) 7 = .ok (.bipush 35, 2) := zd zm_1031 (by decide +kernel)
theorem d_1031_9 {σ : Nat → Nat} {n0 : Nat} {bf : ab_B} : decode (ab_code (zx σ n0 bf).1 1031) 9 = .ok (.if_icmp .eq 9, 3) := zd zm_1031 (by decide +kernel)
theorem d_1031_12 {σ : Nat → Nat} {n0 : Nat} {bf : ab_B} : decode (ab_code (zx σ n0 bf).1 1031) 12 = .ok (.iload_n 1, 1) := zd zm_1031 (by decide +kernel)
theorem d_1031_13 {σ : Nat → Nat} {n0 : Nat} {bf : ab_B} : decode (ab_code (zx σ n0 bf).1 1031) 13 = .ok (.bipush 26, 2) := zd zm_1031 (by decide +kernel)
theorem d_1031_15 {σ : Nat → Nat} {n0 : Nat} {bf : ab_B} : decode (ab_code (zx σ n0 bf).1 1031) 15 = .ok (.if_icmp .ne 11, 3) := zd zm_1031 (by decide +kernel)
theorem d_1031_18 {σ : Nat → Nat} {n0 : Nat} {bf : ab_B} : decode (ab_code (zx σ n0 bf).1 1031) 18 = .ok (.aload_n 0, 1) := zd zm_1031 (by decide +kernel)
theorem d_1031_19 {σ : Nat → Nat} {n0 : Nat} {bf : ab_B} : decode (ab_code (zx σ n0 bf).1 1031) 19 = .ok (.iload_n 1, 1) := zd zm_1031 (by decide +kernel)
theorem d_1031_20 {σ : Nat → Nat} {n0 : Nat} {bf : ab_B} : decode (ab_code (zx σ n0 bf).1 1031) 20 = .ok (.iload_n 2, 1) := zd zm_1031 (by decide +kernel)
theorem d_1031_21 {σ : Nat → Nat} {n0 : Nat} {bf : ab_B} : decode (ab_code (zx σ n0 bf).1 1031) 21 = .ok (.iload_n 3, 1) := zd zm_1031 (by decide +kernel)
theorem d_1031_22 {σ : Nat → Nat} {n0 : Nat} {bf : ab_B} : decode (ab_code (zx σ n0 bf).1 1031) 22 = .ok (.invokevirtual 422, 3) := zd zm_1031 (by decide +kernel)
theorem d_1031_25 {σ : Nat → Nat} {n0 : Nat} {bf : ab_B} : decode (ab_code (zx σ n0 bf).1 1031) 25 = .ok (.return_, 1) := zd zm_1031 (by decide +kernel)
theorem d_1031_26 {σ : Nat → Nat} {n0 : Nat} {bf : ab_B} : decode (ab_code (zx σ n0 bf).1 1031) 26 = .ok (.aload_n 0, 1) := zd zm_1031 (by decide +kernel)
theorem d_1031_27 {σ : Nat → Nat} {n0 : Nat} {bf : ab_B} : decode (ab_code (zx σ n0 bf).1 1031) 27 = .ok (.getfield 36, 3) := zd zm_1031 (by decide +kernel)
theorem d_1031_30 {σ : Nat → Nat} {n0 : Nat} {bf : ab_B} : decode (ab_code (zx σ n0 bf).1 1031) 30 = .ok (.aload_n 0, 1) := zd zm_1031 (by decide +kernel)
theorem d_1031_31 {σ : Nat → Nat} {n0 : Nat} {bf : ab_B} : decode (ab_code (zx σ n0 bf).1 1031) 31 = .ok (.dup, 1) := zd zm_1031 (by decide +kernel)
theorem d_1031_32 {σ : Nat → Nat} {n0 : Nat} {bf : ab_B} : decode (ab_code (zx σ n0 bf).1 1031) 32 = .ok (.getfield 111, 3) := zd zm_1031 (by decide +kernel)
theorem d_1031_35 {σ : Nat → Nat} {n0 : Nat} {bf : ab_B} : decode (ab_code (zx σ n0 bf).1 1031) 35 = .ok (.iconst 1, 1) := zd zm_1031 (by decide +kernel)
theorem d_1031_36 {σ : Nat → Nat} {n0 : Nat} {bf : ab_B} : decode (ab_code (zx σ n0 bf).1 1031) 36 = .ok (.isub, 1) := zd zm_1031 (by decide +kernel)
theorem d_1031_37 {σ : Nat → Nat} {n0 : Nat} {bf : ab_B} : decode (ab_code (zx σ n0 bf).1 1031) 37 = .ok (.dup_x1, 1) := zd zm_1031 (by decide +kernel)
theorem d_1031_38 {σ : Nat → Nat} {n0 : Nat} {bf : ab_B} : decode (ab_code (zx σ n0 bf).1 1031) 38 = .ok (.putfield 111, 3) := zd zm_1031 (by decide +kernel)
theorem d_1031_41 {σ : Nat → Nat} {n0 : Nat} {bf : ab_B} : decode (ab_code (zx σ n0 bf).1 1031) 41 = .ok (.laload, 1) := zd zm_1031 (by decide +kernel)
theorem d_1031_42 {σ : Nat → Nat} {n0 : Nat} {bf : ab_B} : decode (ab_code (zx σ n0 bf).1 1031) 42 = .ok (.lstore 4, 2) := zd zm_1031 (by decide +kernel)
theorem d_1031_44 {σ : Nat → Nat} {n0 : Nat} {bf : ab_B} : decode (ab_code (zx σ n0 bf).1 1031) 44 = .ok (.iload_n 1, 1) := zd zm_1031 (by decide +kernel)
theorem d_1031_45 {σ : Nat → Nat} {n0 : Nat} {bf : ab_B} : decode (ab_code (zx σ n0 bf).1 1031) 45 = .ok (.bipush 21, 2) := zd zm_1031 (by decide +kernel)
theorem d_1031_47 {σ : Nat → Nat} {n0 : Nat} {bf : ab_B} : decode (ab_code (zx σ n0 bf).1 1031) 47 = .ok (.if_icmp .ne 11, 3) := zd zm_1031 (by decide +kernel)
theorem d_1031_50 {σ : Nat → Nat} {n0 : Nat} {bf : ab_B} : decode (ab_code (zx σ n0 bf).1 1031) 50 = .ok (.aload_n 0, 1) := zd zm_1031 (by decide +kernel)
theorem d_1031_51 {σ : Nat → Nat} {n0 : Nat} {bf : ab_B} : decode (ab_code (zx σ n0 bf).1 1031) 51 = .ok (.lload 4, 2) := zd zm_1031 (by decide +kernel)
theorem d_1031_53 {σ : Nat → Nat} {n0 : Nat} {bf : ab_B} : decode (ab_code (zx σ n0 bf).1 1031) 53 = .ok (.lneg, 1) := zd zm_1031 (by decide +kernel)
theorem d_1031_54 {σ : Nat → Nat} {n0 : Nat} {bf : ab_B} : decode (ab_code (zx σ n0 bf).1 1031) 54 = .ok (.invokevirtual 223, 3) := zd zm_1031 (by decide +kernel)
theorem d_1031_57 {σ : Nat → Nat} {n0 : Nat} {bf : ab_B} : decode (ab_code (zx σ n0 bf).1 1031) 57 = .ok (.return_, 1) := zd zm_1031 (by decide +kernel)
theorem d_1031_58 {σ : Nat → Nat} {n0 : Nat} {bf : ab_B} : decode (ab_code (zx σ n0 bf).1 1031) 58 = .ok (.iload_n 1, 1) := zd zm_1031 (by decide +kernel)
theorem d_1031_59 {σ : Nat → Nat} {n0 : Nat} {bf : ab_B} : decode (ab_code (zx σ n0 bf).1 1031) 59 = .ok (.bipush 24, 2) := zd zm_1031 (by decide +kernel)
theorem d_1031_61 {σ : Nat → Nat} {n0 : Nat} {bf : ab_B} : decode (ab_code (zx σ n0 bf).1 1031) 61 = .ok (.if_icmp .ne 12, 3) := zd zm_1031 (by decide +kernel)
theorem d_1031_64 {σ : Nat → Nat} {n0 : Nat} {bf : ab_B} : decode (ab_code (zx σ n0 bf).1 1031) 64 = .ok (.aload_n 0, 1) := zd zm_1031 (by decide +kernel)
theorem d_1031_65 {σ : Nat → Nat} {n0 : Nat} {bf : ab_B} : decode (ab_code (zx σ n0 bf).1 1031) 65 = .ok (.lconst 1, 1) := zd zm_1031 (by decide +kernel)
theorem d_1031_66 {σ : Nat → Nat} {n0 : Nat} {bf : ab_B} : decode (ab_code (zx σ n0 bf).1 1031) 66 = .ok (.lload 4, 2) := zd zm_1031 (by decide +kernel)
theorem d_1031_68 {σ : Nat → Nat} {n0 : Nat} {bf : ab_B} : decode (ab_code (zx σ n0 bf).1 1031) 68 = .ok (.lsub, 1) := zd zm_1031 (by decide +kernel)
theorem d_1031_69 {σ : Nat → Nat} {n0 : Nat} {bf : ab_B} : decode (ab_code (zx σ n0 bf).1 1031) 69 = .ok (.invokevirtual 223, 3) := zd zm_1031 (by decide +kernel)
theorem d_1031_72 {σ : Nat → Nat} {n0 : Nat} {bf : ab_B} : decode (ab_code (zx σ n0 bf).1 1031) 72 = .ok (.return_, 1) := zd zm_1031 (by decide +kernel)
theorem d_1031_73 {σ : Nat → Nat} {n0 : Nat} {bf : ab_B} : decode (ab_code (zx σ n0 bf).1 1031) 73 = .ok (.iload_n 1, 1) := zd zm_1031 (by decide +kernel)
theorem d_1031_74 {σ : Nat → Nat} {n0 : Nat} {bf : ab_B} : decode (ab_code (zx σ n0 bf).1 1031) 74 = .ok (.bipush 31, 2) := zd zm_1031 (by decide +kernel)
theorem d_1031_76 {σ : Nat → Nat} {n0 : Nat} {bf : ab_B} : decode (ab_code (zx σ n0 bf).1 1031) 76 = .ok (.if_icmp .ne 49, 3) := zd zm_1031 (by decide +kernel)
theorem d_1031_79 {σ : Nat → Nat} {n0 : Nat} {bf : ab_B} : decode (ab_code (zx σ n0 bf).1 1031) 79 = .ok (.lload 4, 2) := zd zm_1031 (by decide +kernel)
theorem d_1031_81 {σ : Nat → Nat} {n0 : Nat} {bf : ab_B} : decode (ab_code (zx σ n0 bf).1 1031) 81 = .ok (.lconst 0, 1) := zd zm_1031 (by decide +kernel)
theorem d_1031_82 {σ : Nat → Nat} {n0 : Nat} {bf : ab_B} : decode (ab_code (zx σ n0 bf).1 1031) 82 = .ok (.lcmp, 1) := zd zm_1031 (by decide +kernel)
theorem d_1031_83 {σ : Nat → Nat} {n0 : Nat} {bf : ab_B} : decode (ab_code (zx σ n0 bf).1 1031) 83 = .ok (.ifCond .lt 12, 3) := zd zm_1031 (by decide +kernel)
theorem d_1031_86 {σ : Nat → Nat} {n0 : Nat} {bf : ab_B} : decode (ab_code (zx σ n0 bf).1 1031) 86 = .ok (.lload 4, 2) := zd zm_1031 (by decide +kernel)
theorem d_1031_88 {σ : Nat → Nat} {n0 : Nat} {bf : ab_B} : decode (ab_code (zx σ n0 bf).1 1031) 88 = .ok (.ldc2_w 425, 3) := zd zm_1031 (by decide +kernel)
theorem d_1031_91 {σ : Nat → Nat} {n0 : Nat} {bf : ab_B} : decode (ab_code (zx σ n0 bf).1 1031) 91 = .ok (.lcmp, 1) := zd zm_1031 (by decide +kernel)
theorem d_1031_92 {σ : Nat → Nat} {n0 : Nat} {bf : ab_B} : decode (ab_code (zx σ n0 bf).1 1031) 92 = .ok (.ifCond .le 13, 3) := zd zm_1031 (by decide +kernel)
theorem d_1031_95 {σ : Nat → Nat} {n0 : Nat} {bf : ab_B} : decode (ab_code (zx σ n0 bf).1 1031) 95 = .ok (.aload_n 0, 1) := zd zm_1031 (by decide +kernel)
theorem d_1031_96 {σ : Nat → Nat} {n0 : Nat} {bf : ab_B} : decode (ab_code (zx σ n0 bf).1 1031) 96 = .ok (.iconst 2, 1) := zd zm_1031 (by decide +kernel)
theorem d_1031_97 {σ : Nat → Nat} {n0 : Nat} {bf : ab_B} : decode (ab_code (zx σ n0 bf).1 1031) 97 = .ok (.iload_n 2, 1) := zd zm_1031 (by decide +kernel)
theorem d_1031_98 {σ : Nat → Nat} {n0 : Nat} {bf : ab_B} : decode (ab_code (zx σ n0 bf).1 1031) 98 = .ok (.invokevirtual 194, 3) := zd zm_1031 (by decide +kernel)
theorem d_1031_101 {σ : Nat → Nat} {n0 : Nat} {bf : ab_B} : decode (ab_code (zx σ n0 bf).1 1031) 101 = .ok (.pop, 1) := zd zm_1031 (by decide +kernel)
theorem d_1031_102 {σ : Nat → Nat} {n0 : Nat} {bf : ab_B} : decode (ab_code (zx σ n0 bf).1 1031) 102 = .ok (.goto 22, 3) := zd zm_1031 (by decide +kernel)
theorem d_1031_105 {σ : Nat → Nat} {n0 : Nat} {bf : ab_B} : decode (ab_code (zx σ n0 bf).1 1031) 105 = .ok (.aload_n 0, 1) := zd zm_1031 (by decide +kernel)
theorem d_1031_106 {σ : Nat → Nat} {n0 : Nat} {bf : ab_B} : decode (ab_code (zx σ n0 bf).1 1031) 106 = .ok (.getfield 36, 3) := zd zm_1031 (by decide +kernel)
theorem d_1031_109 {σ : Nat → Nat} {n0 : Nat} {bf : ab_B} : decode (ab_code (zx σ n0 bf).1 1031) 109 = .ok (.aload_n 0, 1) := zd zm_1031 (by decide +kernel)
theorem d_1031_110 {σ : Nat → Nat} {n0 : Nat} {bf : ab_B} : decode (ab_code (zx σ n0 bf).1 1031) 110 = .ok (.getfield 111, 3) := zd zm_1031 (by decide +kernel)
theorem d_1031_113 {σ : Nat → Nat} {n0 : Nat} {bf : ab_B} : decode (ab_code (zx σ n0 bf).1 1031) 113 = .ok (.iconst 1, 1) := zd zm_1031 (by decide +kernel)
theorem d_1031_114 {σ : Nat → Nat} {n0 : Nat} {bf : ab_B} : decode (ab_code (zx σ n0 bf).1 1031) 114 = .ok (.isub, 1) := zd zm_1031 (by decide +kernel)
theorem d_1031_115 {σ : Nat → Nat} {n0 : Nat} {bf : ab_B} : decode (ab_code (zx σ n0 bf).1 1031) 115 = .ok (.dup2, 1) := zd zm_1031 (by decide +kernel)
theorem d_1031_116 {σ : Nat → Nat} {n0 : Nat} {bf : ab_B} : decode (ab_code (zx σ n0 bf).1 1031) 116 = .ok (.laload, 1) := zd zm_1031 (by decide +kernel)
theorem d_1031_117 {σ : Nat → Nat} {n0 : Nat} {bf : ab_B} : decode (ab_code (zx σ n0 bf).1 1031) 117 = .ok (.lconst 1, 1) := zd zm_1031 (by decide +kernel)
theorem d_1031_118 {σ : Nat → Nat} {n0 : Nat} {bf : ab_B} : decode (ab_code (zx σ n0 bf).1 1031) 118 = .ok (.lload 4, 2) := zd zm_1031 (by decide +kernel)
theorem d_1031_120 {σ : Nat → Nat} {n0 : Nat} {bf : ab_B} : decode (ab_code (zx σ n0 bf).1 1031) 120 = .ok (.l2i, 1) := zd zm_1031 (by decide +kernel)
theorem d_1031_121 {σ : Nat → Nat} {n0 : Nat} {bf : ab_B} : decode (ab_code (zx σ n0 bf).1 1031) 121 = .ok (.lshl, 1) := zd zm_1031 (by decide +kernel)
theorem d_1031_122 {σ : Nat → Nat} {n0 : Nat} {bf : ab_B} : decode (ab_code (zx σ n0 bf).1 1031) 122 = .ok (.lor, 1) := zd zm_1031 (by decide +kernel)
theorem d_1031_123 {σ : Nat → Nat} {n0 : Nat} {bf : ab_B} : decode (ab_code (zx σ n0 bf).1 1031) 123 = .ok (.lastore, 1) := zd zm_1031 (by decide +kernel)
theorem d_1031_124 {σ : Nat → Nat} {n0 : Nat} {bf : ab_B} : decode (ab_code (zx σ n0 bf).1 1031) 124 = .ok (.return_, 1) := zd zm_1031 (by decide +kernel)
theorem d_1031_125 {σ : Nat → Nat} {n0 : Nat} {bf : ab_B} : decode (ab_code (zx σ n0 bf).1 1031) 125 = .ok (.aload_n 0, 1) := zd zm_1031 (by decide +kernel)
theorem d_1031_126 {σ : Nat → Nat} {n0 : Nat} {bf : ab_B} : decode (ab_code (zx σ n0 bf).1 1031) 126 = .ok (.getfield 36, 3) := zd zm_1031 (by decide +kernel)
theorem d_1031_129 {σ : Nat → Nat} {n0 : Nat} {bf : ab_B} : decode (ab_code (zx σ n0 bf).1 1031) 129 = .ok (.aload_n 0, 1) := zd zm_1031 (by decide +kernel)
theorem d_1031_130 {σ : Nat → Nat} {n0 : Nat} {bf : ab_B} : decode (ab_code (zx σ n0 bf).1 1031) 130 = .ok (.dup, 1) := zd zm_1031 (by decide +kernel)
theorem d_1031_131 {σ : Nat → Nat} {n0 : Nat} {bf : ab_B} : decode (ab_code (zx σ n0 bf).1 1031) 131 = .ok (.getfield 111, 3) := zd zm_1031 (by decide +kernel)
theorem d_1031_134 {σ : Nat → Nat} {n0 : Nat} {bf : ab_B} : decode (ab_code (zx σ n0 bf).1 1031) 134 = .ok (.iconst 1, 1) := zd zm_1031 (by decide +kernel)
theorem d_1031_135 {σ : Nat → Nat} {n0 : Nat} {bf : ab_B} : decode (ab_code (zx σ n0 bf).1 1031) 135 = .ok (.isub, 1) := zd zm_1031 (by decide +kernel)
theorem d_1031_136 {σ : Nat → Nat} {n0 : Nat} {bf : ab_B} : decode (ab_code (zx σ n0 bf).1 1031) 136 = .ok (.dup_x1, 1) := zd zm_1031 (by decide +kernel)
theorem d_1031_137 {σ : Nat → Nat} {n0 : Nat} {bf : ab_B} : decode (ab_code (zx σ n0 bf).1 1031) 137 = .ok (.putfield 111, 3) := zd zm_1031 (by decide +kernel)
theorem d_1031_140 {σ : Nat → Nat} {n0 : Nat} {bf : ab_B} : decode (ab_code (zx σ n0 bf).1 1031) 140 = .ok (.laload, 1) := zd zm_1031 (by decide +kernel)
theorem d_1031_141 {σ : Nat → Nat} {n0 : Nat} {bf : ab_B} : decode (ab_code (zx σ n0 bf).1 1031) 141 = .ok (.lstore 6, 2) := zd zm_1031 (by decide +kernel)
theorem d_1031_143 {σ : Nat → Nat} {n0 : Nat} {bf : ab_B} : decode (ab_code (zx σ n0 bf).1 1031) 143 = .ok (.iload_n 1, 1) := zd zm_1031 (by decide +kernel)
theorem d_1031_144 {σ : Nat → Nat} {n0 : Nat} {bf : ab_B} : decode (ab_code (zx σ n0 bf).1 1031) 144 = .ok (.tableswitch 331 16 32 #[84, 97, 110, 123, 153, 331, 189, 201, 331, 213, 331, 246, 279, 291, 307, 331, 319], 84) := zd zm_1031 (by decide +kernel)
theorem d_1031_228 {σ : Nat → Nat} {n0 : Nat} {bf : ab_B} : decode (ab_code (zx σ n0 bf).1 1031) 228 = .ok (.aload_n 0, 1) := zd zm_1031 (by decide +kernel)
theorem d_1031_229 {σ : Nat → Nat} {n0 : Nat} {bf : ab_B} : decode (ab_code (zx σ n0 bf).1 1031) 229 = .ok (.lload 6, 2) := zd zm_1031 (by decide +kernel)
theorem d_1031_231 {σ : Nat → Nat} {n0 : Nat} {bf : ab_B} : decode (ab_code (zx σ n0 bf).1 1031) 231 = .ok (.lload 4, 2) := zd zm_1031 (by decide +kernel)
theorem d_1031_233 {σ : Nat → Nat} {n0 : Nat} {bf : ab_B} : decode (ab_code (zx σ n0 bf).1 1031) 233 = .ok (.ladd, 1) := zd zm_1031 (by decide +kernel)
theorem d_1031_234 {σ : Nat → Nat} {n0 : Nat} {bf : ab_B} : decode (ab_code (zx σ n0 bf).1 1031) 234 = .ok (.iload_n 2, 1) := zd zm_1031 (by decide +kernel)
theorem d_1031_235 {σ : Nat → Nat} {n0 : Nat} {bf : ab_B} : decode (ab_code (zx σ n0 bf).1 1031) 235 = .ok (.invokevirtual 427, 3) := zd zm_1031 (by decide +kernel)
theorem d_1031_238 {σ : Nat → Nat} {n0 : Nat} {bf : ab_B} : decode (ab_code (zx σ n0 bf).1 1031) 238 = .ok (.goto 269, 3) := zd zm_1031 (by decide +kernel)
theorem d_1031_241 {σ : Nat → Nat} {n0 : Nat} {bf : ab_B} : decode (ab_code (zx σ n0 bf).1 1031) 241 = .ok (.aload_n 0, 1) := zd zm_1031 (by decide +kernel)
theorem d_1031_242 {σ : Nat → Nat} {n0 : Nat} {bf : ab_B} : decode (ab_code (zx σ n0 bf).1 1031) 242 = .ok (.lload 6, 2) := zd zm_1031 (by decide +kernel)
theorem d_1031_244 {σ : Nat → Nat} {n0 : Nat} {bf : ab_B} : decode (ab_code (zx σ n0 bf).1 1031) 244 = .ok (.lload 4, 2) := zd zm_1031 (by decide +kernel)
theorem d_1031_246 {σ : Nat → Nat} {n0 : Nat} {bf : ab_B} : decode (ab_code (zx σ n0 bf).1 1031) 246 = .ok (.lsub, 1) := zd zm_1031 (by decide +kernel)
theorem d_1031_247 {σ : Nat → Nat} {n0 : Nat} {bf : ab_B} : decode (ab_code (zx σ n0 bf).1 1031) 247 = .ok (.iload_n 2, 1) := zd zm_1031 (by decide +kernel)
theorem d_1031_248 {σ : Nat → Nat} {n0 : Nat} {bf : ab_B} : decode (ab_code (zx σ n0 bf).1 1031) 248 = .ok (.invokevirtual 427, 3) := zd zm_1031 (by decide +kernel)
theorem d_1031_251 {σ : Nat → Nat} {n0 : Nat} {bf : ab_B} : decode (ab_code (zx σ n0 bf).1 1031) 251 = .ok (.goto 256, 3) := zd zm_1031 (by decide +kernel)
theorem d_1031_254 {σ : Nat → Nat} {n0 : Nat} {bf : ab_B} : decode (ab_code (zx σ n0 bf).1 1031) 254 = .ok (.aload_n 0, 1) := zd zm_1031 (by decide +kernel)
theorem d_1031_255 {σ : Nat → Nat} {n0 : Nat} {bf : ab_B} : decode (ab_code (zx σ n0 bf).1 1031) 255 = .ok (.lload 6, 2) := zd zm_1031 (by decide +kernel)
theorem d_1031_257 {σ : Nat → Nat} {n0 : Nat} {bf : ab_B} : decode (ab_code (zx σ n0 bf).1 1031) 257 = .ok (.lload 4, 2) := zd zm_1031 (by decide +kernel)
theorem d_1031_259 {σ : Nat → Nat} {n0 : Nat} {bf : ab_B} : decode (ab_code (zx σ n0 bf).1 1031) 259 = .ok (.lmul, 1) := zd zm_1031 (by decide +kernel)
theorem d_1031_260 {σ : Nat → Nat} {n0 : Nat} {bf : ab_B} : decode (ab_code (zx σ n0 bf).1 1031) 260 = .ok (.iload_n 2, 1) := zd zm_1031 (by decide +kernel)
theorem d_1031_261 {σ : Nat → Nat} {n0 : Nat} {bf : ab_B} : decode (ab_code (zx σ n0 bf).1 1031) 261 = .ok (.invokevirtual 427, 3) := zd zm_1031 (by decide +kernel)
theorem d_1031_264 {σ : Nat → Nat} {n0 : Nat} {bf : ab_B} : decode (ab_code (zx σ n0 bf).1 1031) 264 = .ok (.goto 243, 3) := zd zm_1031 (by decide +kernel)
theorem d_1031_267 {σ : Nat → Nat} {n0 : Nat} {bf : ab_B} : decode (ab_code (zx σ n0 bf).1 1031) 267 = .ok (.lload 4, 2) := zd zm_1031 (by decide +kernel)
theorem d_1031_269 {σ : Nat → Nat} {n0 : Nat} {bf : ab_B} : decode (ab_code (zx σ n0 bf).1 1031) 269 = .ok (.lconst 0, 1) := zd zm_1031 (by decide +kernel)
theorem d_1031_270 {σ : Nat → Nat} {n0 : Nat} {bf : ab_B} : decode (ab_code (zx σ n0 bf).1 1031) 270 = .ok (.lcmp, 1) := zd zm_1031 (by decide +kernel)
theorem d_1031_271 {σ : Nat → Nat} {n0 : Nat} {bf : ab_B} : decode (ab_code (zx σ n0 bf).1 1031) 271 = .ok (.ifCond .ne 14, 3) := zd zm_1031 (by decide +kernel)
theorem d_1031_274 {σ : Nat → Nat} {n0 : Nat} {bf : ab_B} : decode (ab_code (zx σ n0 bf).1 1031) 274 = .ok (.aload_n 0, 1) := zd zm_1031 (by decide +kernel)
theorem d_1031_275 {σ : Nat → Nat} {n0 : Nat} {bf : ab_B} : decode (ab_code (zx σ n0 bf).1 1031) 275 = .ok (.bipush 7, 2) := zd zm_1031 (by decide +kernel)
theorem d_1031_277 {σ : Nat → Nat} {n0 : Nat} {bf : ab_B} : decode (ab_code (zx σ n0 bf).1 1031) 277 = .ok (.iload_n 2, 1) := zd zm_1031 (by decide +kernel)
theorem d_1031_278 {σ : Nat → Nat} {n0 : Nat} {bf : ab_B} : decode (ab_code (zx σ n0 bf).1 1031) 278 = .ok (.invokevirtual 194, 3) := zd zm_1031 (by decide +kernel)
theorem d_1031_281 {σ : Nat → Nat} {n0 : Nat} {bf : ab_B} : decode (ab_code (zx σ n0 bf).1 1031) 281 = .ok (.pop, 1) := zd zm_1031 (by decide +kernel)
theorem d_1031_282 {σ : Nat → Nat} {n0 : Nat} {bf : ab_B} : decode (ab_code (zx σ n0 bf).1 1031) 282 = .ok (.goto 225, 3) := zd zm_1031 (by decide +kernel)
theorem d_1031_285 {σ : Nat → Nat} {n0 : Nat} {bf : ab_B} : decode (ab_code (zx σ n0 bf).1 1031) 285 = .ok (.aload_n 0, 1) := zd zm_1031 (by decide +kernel)
theorem d_1031_286 {σ : Nat → Nat} {n0 : Nat} {bf : ab_B} : decode (ab_code (zx σ n0 bf).1 1031) 286 = .ok (.lload 6, 2) := zd zm_1031 (by decide +kernel)
theorem d_1031_288 {σ : Nat → Nat} {n0 : Nat} {bf : ab_B} : decode (ab_code (zx σ n0 bf).1 1031) 288 = .ok (.lload 4, 2) := zd zm_1031 (by decide +kernel)
theorem d_1031_290 {σ : Nat → Nat} {n0 : Nat} {bf : ab_B} : decode (ab_code (zx σ n0 bf).1 1031) 290 = .ok (.ldiv, 1) := zd zm_1031 (by decide +kernel)
theorem d_1031_291 {σ : Nat → Nat} {n0 : Nat} {bf : ab_B} : decode (ab_code (zx σ n0 bf).1 1031) 291 = .ok (.invokevirtual 223, 3) := zd zm_1031 (by decide +kernel)
theorem d_1031_294 {σ : Nat → Nat} {n0 : Nat} {bf : ab_B} : decode (ab_code (zx σ n0 bf).1 1031) 294 = .ok (.goto 213, 3) := zd zm_1031 (by decide +kernel)
theorem d_1031_297 {σ : Nat → Nat} {n0 : Nat} {bf : ab_B} : decode (ab_code (zx σ n0 bf).1 1031) 297 = .ok (.lload 4, 2) := zd zm_1031 (by decide +kernel)
theorem d_1031_299 {σ : Nat → Nat} {n0 : Nat} {bf : ab_B} : decode (ab_code (zx σ n0 bf).1 1031) 299 = .ok (.lconst 0, 1) := zd zm_1031 (by decide +kernel)
theorem d_1031_300 {σ : Nat → Nat} {n0 : Nat} {bf : ab_B} : decode (ab_code (zx σ n0 bf).1 1031) 300 = .ok (.lcmp, 1) := zd zm_1031 (by decide +kernel)
theorem d_1031_301 {σ : Nat → Nat} {n0 : Nat} {bf : ab_B} : decode (ab_code (zx σ n0 bf).1 1031) 301 = .ok (.ifCond .gt 14, 3) := zd zm_1031 (by decide +kernel)
theorem d_1031_304 {σ : Nat → Nat} {n0 : Nat} {bf : ab_B} : decode (ab_code (zx σ n0 bf).1 1031) 304 = .ok (.aload_n 0, 1) := zd zm_1031 (by decide +kernel)
theorem d_1031_305 {σ : Nat → Nat} {n0 : Nat} {bf : ab_B} : decode (ab_code (zx σ n0 bf).1 1031) 305 = .ok (.bipush 7, 2) := zd zm_1031 (by decide +kernel)
theorem d_1031_307 {σ : Nat → Nat} {n0 : Nat} {bf : ab_B} : decode (ab_code (zx σ n0 bf).1 1031) 307 = .ok (.iload_n 2, 1) := zd zm_1031 (by decide +kernel)
theorem d_1031_308 {σ : Nat → Nat} {n0 : Nat} {bf : ab_B} : decode (ab_code (zx σ n0 bf).1 1031) 308 = .ok (.invokevirtual 194, 3) := zd zm_1031 (by decide +kernel)
theorem d_1031_311 {σ : Nat → Nat} {n0 : Nat} {bf : ab_B} : decode (ab_code (zx σ n0 bf).1 1031) 311 = .ok (.pop, 1) := zd zm_1031 (by decide +kernel)
theorem d_1031_312 {σ : Nat → Nat} {n0 : Nat} {bf : ab_B} : decode (ab_code (zx σ n0 bf).1 1031) 312 = .ok (.goto 195, 3) := zd zm_1031 (by decide +kernel)
theorem d_1031_315 {σ : Nat → Nat} {n0 : Nat} {bf : ab_B} : decode (ab_code (zx σ n0 bf).1 1031) 315 = .ok (.aload_n 0, 1) := zd zm_1031 (by decide +kernel)
theorem d_1031_316 {σ : Nat → Nat} {n0 : Nat} {bf : ab_B} : decode (ab_code (zx σ n0 bf).1 1031) 316 = .ok (.lload 6, 2) := zd zm_1031 (by decide +kernel)
theorem d_1031_318 {σ : Nat → Nat} {n0 : Nat} {bf : ab_B} : decode (ab_code (zx σ n0 bf).1 1031) 318 = .ok (.lload 4, 2) := zd zm_1031 (by decide +kernel)
theorem d_1031_320 {σ : Nat → Nat} {n0 : Nat} {bf : ab_B} : decode (ab_code (zx σ n0 bf).1 1031) 320 = .ok (.lrem, 1) := zd zm_1031 (by decide +kernel)
theorem d_1031_321 {σ : Nat → Nat} {n0 : Nat} {bf : ab_B} : decode (ab_code (zx σ n0 bf).1 1031) 321 = .ok (.lload 4, 2) := zd zm_1031 (by decide +kernel)
theorem d_1031_323 {σ : Nat → Nat} {n0 : Nat} {bf : ab_B} : decode (ab_code (zx σ n0 bf).1 1031) 323 = .ok (.ladd, 1) := zd zm_1031 (by decide +kernel)
theorem d_1031_324 {σ : Nat → Nat} {n0 : Nat} {bf : ab_B} : decode (ab_code (zx σ n0 bf).1 1031) 324 = .ok (.lload 4, 2) := zd zm_1031 (by decide +kernel)
theorem d_1031_326 {σ : Nat → Nat} {n0 : Nat} {bf : ab_B} : decode (ab_code (zx σ n0 bf).1 1031) 326 = .ok (.lrem, 1) := zd zm_1031 (by decide +kernel)
theorem d_1031_327 {σ : Nat → Nat} {n0 : Nat} {bf : ab_B} : decode (ab_code (zx σ n0 bf).1 1031) 327 = .ok (.invokevirtual 223, 3) := zd zm_1031 (by decide +kernel)
theorem d_1031_330 {σ : Nat → Nat} {n0 : Nat} {bf : ab_B} : decode (ab_code (zx σ n0 bf).1 1031) 330 = .ok (.goto 177, 3) := zd zm_1031 (by decide +kernel)
theorem d_1031_333 {σ : Nat → Nat} {n0 : Nat} {bf : ab_B} : decode (ab_code (zx σ n0 bf).1 1031) 333 = .ok (.aload_n 0, 1) := zd zm_1031 (by decide +kernel)
theorem d_1031_334 {σ : Nat → Nat} {n0 : Nat} {bf : ab_B} : decode (ab_code (zx σ n0 bf).1 1031) 334 = .ok (.lload 6, 2) := zd zm_1031 (by decide +kernel)
theorem d_1031_336 {σ : Nat → Nat} {n0 : Nat} {bf : ab_B} : decode (ab_code (zx σ n0 bf).1 1031) 336 = .ok (.lload 4, 2) := zd zm_1031 (by decide +kernel)
theorem d_1031_338 {σ : Nat → Nat} {n0 : Nat} {bf : ab_B} : decode (ab_code (zx σ n0 bf).1 1031) 338 = .ok (.land, 1) := zd zm_1031 (by decide +kernel)
theorem d_1031_339 {σ : Nat → Nat} {n0 : Nat} {bf : ab_B} : decode (ab_code (zx σ n0 bf).1 1031) 339 = .ok (.invokevirtual 223, 3) := zd zm_1031 (by decide +kernel)
theorem d_1031_342 {σ : Nat → Nat} {n0 : Nat} {bf : ab_B} : decode (ab_code (zx σ n0 bf).1 1031) 342 = .ok (.goto 165, 3) := zd zm_1031 (by decide +kernel)
theorem d_1031_345 {σ : Nat → Nat} {n0 : Nat} {bf : ab_B} : decode (ab_code (zx σ n0 bf).1 1031) 345 = .ok (.aload_n 0, 1) := zd zm_1031 (by decide +kernel)
theorem d_1031_346 {σ : Nat → Nat} {n0 : Nat} {bf : ab_B} : decode (ab_code (zx σ n0 bf).1 1031) 346 = .ok (.lload 6, 2) := zd zm_1031 (by decide +kernel)
theorem d_1031_348 {σ : Nat → Nat} {n0 : Nat} {bf : ab_B} : decode (ab_code (zx σ n0 bf).1 1031) 348 = .ok (.lload 4, 2) := zd zm_1031 (by decide +kernel)
theorem d_1031_350 {σ : Nat → Nat} {n0 : Nat} {bf : ab_B} : decode (ab_code (zx σ n0 bf).1 1031) 350 = .ok (.lor, 1) := zd zm_1031 (by decide +kernel)
theorem d_1031_351 {σ : Nat → Nat} {n0 : Nat} {bf : ab_B} : decode (ab_code (zx σ n0 bf).1 1031) 351 = .ok (.invokevirtual 223, 3) := zd zm_1031 (by decide +kernel)
theorem d_1031_354 {σ : Nat → Nat} {n0 : Nat} {bf : ab_B} : decode (ab_code (zx σ n0 bf).1 1031) 354 = .ok (.goto 153, 3) := zd zm_1031 (by decide +kernel)
theorem d_1031_357 {σ : Nat → Nat} {n0 : Nat} {bf : ab_B} : decode (ab_code (zx σ n0 bf).1 1031) 357 = .ok (.aload_n 0, 1) := zd zm_1031 (by decide +kernel)
theorem d_1031_358 {σ : Nat → Nat} {n0 : Nat} {bf : ab_B} : decode (ab_code (zx σ n0 bf).1 1031) 358 = .ok (.aload_n 0, 1) := zd zm_1031 (by decide +kernel)
theorem d_1031_359 {σ : Nat → Nat} {n0 : Nat} {bf : ab_B} : decode (ab_code (zx σ n0 bf).1 1031) 359 = .ok (.getfield 107, 3) := zd zm_1031 (by decide +kernel)
theorem d_1031_362 {σ : Nat → Nat} {n0 : Nat} {bf : ab_B} : decode (ab_code (zx σ n0 bf).1 1031) 362 = .ok (.getfield 201, 3) := zd zm_1031 (by decide +kernel)
theorem d_1031_365 {σ : Nat → Nat} {n0 : Nat} {bf : ab_B} : decode (ab_code (zx σ n0 bf).1 1031) 365 = .ok (.iload_n 3, 1) := zd zm_1031 (by decide +kernel)
theorem d_1031_366 {σ : Nat → Nat} {n0 : Nat} {bf : ab_B} : decode (ab_code (zx σ n0 bf).1 1031) 366 = .ok (.iconst 2, 1) := zd zm_1031 (by decide +kernel)
theorem d_1031_367 {σ : Nat → Nat} {n0 : Nat} {bf : ab_B} : decode (ab_code (zx σ n0 bf).1 1031) 367 = .ok (.iadd, 1) := zd zm_1031 (by decide +kernel)
theorem d_1031_368 {σ : Nat → Nat} {n0 : Nat} {bf : ab_B} : decode (ab_code (zx σ n0 bf).1 1031) 368 = .ok (.iaload, 1) := zd zm_1031 (by decide +kernel)
theorem d_1031_369 {σ : Nat → Nat} {n0 : Nat} {bf : ab_B} : decode (ab_code (zx σ n0 bf).1 1031) 369 = .ok (.lload 6, 2) := zd zm_1031 (by decide +kernel)
theorem d_1031_371 {σ : Nat → Nat} {n0 : Nat} {bf : ab_B} : decode (ab_code (zx σ n0 bf).1 1031) 371 = .ok (.lload 4, 2) := zd zm_1031 (by decide +kernel)
theorem d_1031_373 {σ : Nat → Nat} {n0 : Nat} {bf : ab_B} : decode (ab_code (zx σ n0 bf).1 1031) 373 = .ok (.invokestatic 430, 3) := zd zm_1031 (by decide +kernel)
theorem d_1031_376 {σ : Nat → Nat} {n0 : Nat} {bf : ab_B} : decode (ab_code (zx σ n0 bf).1 1031) 376 = .ok (.ifCond .eq 7, 3) := zd zm_1031 (by decide +kernel)
theorem d_1031_379 {σ : Nat → Nat} {n0 : Nat} {bf : ab_B} : decode (ab_code (zx σ n0 bf).1 1031) 379 = .ok (.lconst 1, 1) := zd zm_1031 (by decide +kernel)
theorem d_1031_380 {σ : Nat → Nat} {n0 : Nat} {bf : ab_B} : decode (ab_code (zx σ n0 bf).1 1031) 380 = .ok (.goto 4, 3) := zd zm_1031 (by decide +kernel)
theorem d_1031_383 {σ : Nat → Nat} {n0 : Nat} {bf : ab_B} : decode (ab_code (zx σ n0 bf).1 1031) 383 = .ok (.lconst 0, 1) := zd zm_1031 (by decide +kernel)
theorem d_1031_384 {σ : Nat → Nat} {n0 : Nat} {bf : ab_B} : decode (ab_code (zx σ n0 bf).1 1031) 384 = .ok (.invokevirtual 223, 3) := zd zm_1031 (by decide +kernel)
theorem d_1031_387 {σ : Nat → Nat} {n0 : Nat} {bf : ab_B} : decode (ab_code (zx σ n0 bf).1 1031) 387 = .ok (.goto 120, 3) := zd zm_1031 (by decide +kernel)
theorem d_1031_390 {σ : Nat → Nat} {n0 : Nat} {bf : ab_B} : decode (ab_code (zx σ n0 bf).1 1031) 390 = .ok (.aload_n 0, 1) := zd zm_1031 (by decide +kernel)
theorem d_1031_391 {σ : Nat → Nat} {n0 : Nat} {bf : ab_B} : decode (ab_code (zx σ n0 bf).1 1031) 391 = .ok (.aload_n 0, 1) := zd zm_1031 (by decide +kernel)
theorem d_1031_392 {σ : Nat → Nat} {n0 : Nat} {bf : ab_B} : decode (ab_code (zx σ n0 bf).1 1031) 392 = .ok (.getfield 107, 3) := zd zm_1031 (by decide +kernel)
theorem d_1031_395 {σ : Nat → Nat} {n0 : Nat} {bf : ab_B} : decode (ab_code (zx σ n0 bf).1 1031) 395 = .ok (.getfield 201, 3) := zd zm_1031 (by decide +kernel)
theorem d_1031_398 {σ : Nat → Nat} {n0 : Nat} {bf : ab_B} : decode (ab_code (zx σ n0 bf).1 1031) 398 = .ok (.iload_n 3, 1) := zd zm_1031 (by decide +kernel)
theorem d_1031_399 {σ : Nat → Nat} {n0 : Nat} {bf : ab_B} : decode (ab_code (zx σ n0 bf).1 1031) 399 = .ok (.iconst 2, 1) := zd zm_1031 (by decide +kernel)
theorem d_1031_400 {σ : Nat → Nat} {n0 : Nat} {bf : ab_B} : decode (ab_code (zx σ n0 bf).1 1031) 400 = .ok (.iadd, 1) := zd zm_1031 (by decide +kernel)
theorem d_1031_401 {σ : Nat → Nat} {n0 : Nat} {bf : ab_B} : decode (ab_code (zx σ n0 bf).1 1031) 401 = .ok (.iaload, 1) := zd zm_1031 (by decide +kernel)
theorem d_1031_402 {σ : Nat → Nat} {n0 : Nat} {bf : ab_B} : decode (ab_code (zx σ n0 bf).1 1031) 402 = .ok (.lload 6, 2) := zd zm_1031 (by decide +kernel)
theorem d_1031_404 {σ : Nat → Nat} {n0 : Nat} {bf : ab_B} : decode (ab_code (zx σ n0 bf).1 1031) 404 = .ok (.lload 4, 2) := zd zm_1031 (by decide +kernel)
theorem d_1031_406 {σ : Nat → Nat} {n0 : Nat} {bf : ab_B} : decode (ab_code (zx σ n0 bf).1 1031) 406 = .ok (.invokestatic 434, 3) := zd zm_1031 (by decide +kernel)
theorem d_1031_409 {σ : Nat → Nat} {n0 : Nat} {bf : ab_B} : decode (ab_code (zx σ n0 bf).1 1031) 409 = .ok (.ifCond .eq 7, 3) := zd zm_1031 (by decide +kernel)
theorem d_1031_412 {σ : Nat → Nat} {n0 : Nat} {bf : ab_B} : decode (ab_code (zx σ n0 bf).1 1031) 412 = .ok (.lconst 1, 1) := zd zm_1031 (by decide +kernel)
theorem d_1031_413 {σ : Nat → Nat} {n0 : Nat} {bf : ab_B} : decode (ab_code (zx σ n0 bf).1 1031) 413 = .ok (.goto 4, 3) := zd zm_1031 (by decide +kernel)
theorem d_1031_416 {σ : Nat → Nat} {n0 : Nat} {bf : ab_B} : decode (ab_code (zx σ n0 bf).1 1031) 416 = .ok (.lconst 0, 1) := zd zm_1031 (by decide +kernel)
theorem d_1031_417 {σ : Nat → Nat} {n0 : Nat} {bf : ab_B} : decode (ab_code (zx σ n0 bf).1 1031) 417 = .ok (.invokevirtual 223, 3) := zd zm_1031 (by decide +kernel)
theorem d_1031_420 {σ : Nat → Nat} {n0 : Nat} {bf : ab_B} : decode (ab_code (zx σ n0 bf).1 1031) 420 = .ok (.goto 87, 3) := zd zm_1031 (by decide +kernel)
theorem d_1031_423 {σ : Nat → Nat} {n0 : Nat} {bf : ab_B} : decode (ab_code (zx σ n0 bf).1 1031) 423 = .ok (.aload_n 0, 1) := zd zm_1031 (by decide +kernel)
theorem d_1031_424 {σ : Nat → Nat} {n0 : Nat} {bf : ab_B} : decode (ab_code (zx σ n0 bf).1 1031) 424 = .ok (.lload 6, 2) := zd zm_1031 (by decide +kernel)
theorem d_1031_426 {σ : Nat → Nat} {n0 : Nat} {bf : ab_B} : decode (ab_code (zx σ n0 bf).1 1031) 426 = .ok (.lload 4, 2) := zd zm_1031 (by decide +kernel)
theorem d_1031_428 {σ : Nat → Nat} {n0 : Nat} {bf : ab_B} : decode (ab_code (zx σ n0 bf).1 1031) 428 = .ok (.lor, 1) := zd zm_1031 (by decide +kernel)
theorem d_1031_429 {σ : Nat → Nat} {n0 : Nat} {bf : ab_B} : decode (ab_code (zx σ n0 bf).1 1031) 429 = .ok (.invokevirtual 223, 3) := zd zm_1031 (by decide +kernel)
theorem d_1031_432 {σ : Nat → Nat} {n0 : Nat} {bf : ab_B} : decode (ab_code (zx σ n0 bf).1 1031) 432 = .ok (.goto 75, 3) := zd zm_1031 (by decide +kernel)
theorem d_1031_435 {σ : Nat → Nat} {n0 : Nat} {bf : ab_B} : decode (ab_code (zx σ n0 bf).1 1031) 435 = .ok (.aload_n 0, 1) := zd zm_1031 (by decide +kernel)
theorem d_1031_436 {σ : Nat → Nat} {n0 : Nat} {bf : ab_B} : decode (ab_code (zx σ n0 bf).1 1031) 436 = .ok (.lload 6, 2) := zd zm_1031 (by decide +kernel)
theorem d_1031_438 {σ : Nat → Nat} {n0 : Nat} {bf : ab_B} : decode (ab_code (zx σ n0 bf).1 1031) 438 = .ok (.lload 4, 2) := zd zm_1031 (by decide +kernel)
theorem d_1031_440 {σ : Nat → Nat} {n0 : Nat} {bf : ab_B} : decode (ab_code (zx σ n0 bf).1 1031) 440 = .ok (.ldc2_w 437, 3) := zd zm_1031 (by decide +kernel)
theorem d_1031_443 {σ : Nat → Nat} {n0 : Nat} {bf : ab_B} : decode (ab_code (zx σ n0 bf).1 1031) 443 = .ok (.lxor, 1) := zd zm_1031 (by decide +kernel)
theorem d_1031_444 {σ : Nat → Nat} {n0 : Nat} {bf : ab_B} : decode (ab_code (zx σ n0 bf).1 1031) 444 = .ok (.land, 1) := zd zm_1031 (by decide +kernel)
theorem d_1031_445 {σ : Nat → Nat} {n0 : Nat} {bf : ab_B} : decode (ab_code (zx σ n0 bf).1 1031) 445 = .ok (.invokevirtual 223, 3) := zd zm_1031 (by decide +kernel)
theorem d_1031_448 {σ : Nat → Nat} {n0 : Nat} {bf : ab_B} : decode (ab_code (zx σ n0 bf).1 1031) 448 = .ok (.goto 59, 3) := zd zm_1031 (by decide +kernel)
theorem d_1031_451 {σ : Nat → Nat} {n0 : Nat} {bf : ab_B} : decode (ab_code (zx σ n0 bf).1 1031) 451 = .ok (.aload_n 0, 1) := zd zm_1031 (by decide +kernel)
theorem d_1031_452 {σ : Nat → Nat} {n0 : Nat} {bf : ab_B} : decode (ab_code (zx σ n0 bf).1 1031) 452 = .ok (.lload 6, 2) := zd zm_1031 (by decide +kernel)
theorem d_1031_454 {σ : Nat → Nat} {n0 : Nat} {bf : ab_B} : decode (ab_code (zx σ n0 bf).1 1031) 454 = .ok (.lload 4, 2) := zd zm_1031 (by decide +kernel)
theorem d_1031_456 {σ : Nat → Nat} {n0 : Nat} {bf : ab_B} : decode (ab_code (zx σ n0 bf).1 1031) 456 = .ok (.land, 1) := zd zm_1031 (by decide +kernel)
theorem d_1031_457 {σ : Nat → Nat} {n0 : Nat} {bf : ab_B} : decode (ab_code (zx σ n0 bf).1 1031) 457 = .ok (.invokevirtual 223, 3) := zd zm_1031 (by decide +kernel)
theorem d_1031_460 {σ : Nat → Nat} {n0 : Nat} {bf : ab_B} : decode (ab_code (zx σ n0 bf).1 1031) 460 = .ok (.goto 47, 3) := zd zm_1031 (by decide +kernel)
theorem d_1031_463 {σ : Nat → Nat} {n0 : Nat} {bf : ab_B} : decode (ab_code (zx σ n0 bf).1 1031) 463 = .ok (.aload_n 0, 1) := zd zm_1031 (by decide +kernel)
theorem d_1031_464 {σ : Nat → Nat} {n0 : Nat} {bf : ab_B} : decode (ab_code (zx σ n0 bf).1 1031) 464 = .ok (.lload 6, 2) := zd zm_1031 (by decide +kernel)
theorem d_1031_466 {σ : Nat → Nat} {n0 : Nat} {bf : ab_B} : decode (ab_code (zx σ n0 bf).1 1031) 466 = .ok (.lload 4, 2) := zd zm_1031 (by decide +kernel)
theorem d_1031_468 {σ : Nat → Nat} {n0 : Nat} {bf : ab_B} : decode (ab_code (zx σ n0 bf).1 1031) 468 = .ok (.iload_n 2, 1) := zd zm_1031 (by decide +kernel)
theorem d_1031_469 {σ : Nat → Nat} {n0 : Nat} {bf : ab_B} : decode (ab_code (zx σ n0 bf).1 1031) 469 = .ok (.invokevirtual 439, 3) := zd zm_1031 (by decide +kernel)
theorem d_1031_472 {σ : Nat → Nat} {n0 : Nat} {bf : ab_B} : decode (ab_code (zx σ n0 bf).1 1031) 472 = .ok (.goto 35, 3) := zd zm_1031 (by decide +kernel)
theorem d_1031_475 {σ : Nat → Nat} {n0 : Nat} {bf : ab_B} : decode (ab_code (zx σ n0 bf).1 1031) 475 = .ok (.aload_n 0, 1) := zd zm_1031 (by decide +kernel)
theorem d_1031_476 {σ : Nat → Nat} {n0 : Nat} {bf : ab_B} : decode (ab_code (zx σ n0 bf).1 1031) 476 = .ok (.lload 6, 2) := zd zm_1031 (by decide +kernel)
theorem d_1031_478 {σ : Nat → Nat} {n0 : Nat} {bf : ab_B} : decode (ab_code (zx σ n0 bf).1 1031) 478 = .ok (.lconst 0, 1) := zd zm_1031 (by decide +kernel)
theorem d_1031_479 {σ : Nat → Nat} {n0 : Nat} {bf : ab_B} : decode (ab_code (zx σ n0 bf).1 1031) 479 = .ok (.lcmp, 1) := zd zm_1031 (by decide +kernel)
theorem d_1031_480 {σ : Nat → Nat} {n0 : Nat} {bf : ab_B} : decode (ab_code (zx σ n0 bf).1 1031) 480 = .ok (.ifCond .lt 23, 3) := zd zm_1031 (by decide +kernel)
theorem d_1031_483 {σ : Nat → Nat} {n0 : Nat} {bf : ab_B} : decode (ab_code (zx σ n0 bf).1 1031) 483 = .ok (.lload 6, 2) := zd zm_1031 (by decide +kernel)
theorem d_1031_485 {σ : Nat → Nat} {n0 : Nat} {bf : ab_B} : decode (ab_code (zx σ n0 bf).1 1031) 485 = .ok (.ldc2_w 425, 3) := zd zm_1031 (by decide +kernel)
theorem d_1031_488 {σ : Nat → Nat} {n0 : Nat} {bf : ab_B} : decode (ab_code (zx σ n0 bf).1 1031) 488 = .ok (.lcmp, 1) := zd zm_1031 (by decide +kernel)
theorem d_1031_489 {σ : Nat → Nat} {n0 : Nat} {bf : ab_B} : decode (ab_code (zx σ n0 bf).1 1031) 489 = .ok (.ifCond .gt 14, 3) := zd zm_1031 (by decide +kernel)
theorem d_1031_492 {σ : Nat → Nat} {n0 : Nat} {bf : ab_B} : decode (ab_code (zx σ n0 bf).1 1031) 492 = .ok (.lload 4, 2) := zd zm_1031 (by decide +kernel)
theorem d_1031_494 {σ : Nat → Nat} {n0 : Nat} {bf : ab_B} : decode (ab_code (zx σ n0 bf).1 1031) 494 = .ok (.lload 6, 2) := zd zm_1031 (by decide +kernel)
theorem d_1031_496 {σ : Nat → Nat} {n0 : Nat} {bf : ab_B} : decode (ab_code (zx σ n0 bf).1 1031) 496 = .ok (.l2i, 1) := zd zm_1031 (by decide +kernel)
theorem d_1031_497 {σ : Nat → Nat} {n0 : Nat} {bf : ab_B} : decode (ab_code (zx σ n0 bf).1 1031) 497 = .ok (.lushr, 1) := zd zm_1031 (by decide +kernel)
theorem d_1031_498 {σ : Nat → Nat} {n0 : Nat} {bf : ab_B} : decode (ab_code (zx σ n0 bf).1 1031) 498 = .ok (.lconst 1, 1) := zd zm_1031 (by decide +kernel)
theorem d_1031_499 {σ : Nat → Nat} {n0 : Nat} {bf : ab_B} : decode (ab_code (zx σ n0 bf).1 1031) 499 = .ok (.land, 1) := zd zm_1031 (by decide +kernel)
theorem d_1031_500 {σ : Nat → Nat} {n0 : Nat} {bf : ab_B} : decode (ab_code (zx σ n0 bf).1 1031) 500 = .ok (.goto 4, 3) := zd zm_1031 (by decide +kernel)
theorem d_1031_503 {σ : Nat → Nat} {n0 : Nat} {bf : ab_B} : decode (ab_code (zx σ n0 bf).1 1031) 503 = .ok (.lconst 0, 1) := zd zm_1031 (by decide +kernel)
theorem d_1031_504 {σ : Nat → Nat} {n0 : Nat} {bf : ab_B} : decode (ab_code (zx σ n0 bf).1 1031) 504 = .ok (.invokevirtual 223, 3) := zd zm_1031 (by decide +kernel)
theorem d_1031_507 {σ : Nat → Nat} {n0 : Nat} {bf : ab_B} : decode (ab_code (zx σ n0 bf).1 1031) 507 = .ok (.return_, 1) := zd zm_1031 (by decide +kernel)
def w_X2_reckon_18 (X : zs_X) (d : Nat) (p0 : Nat) (p1 : Int32) (p2 : Int32) (p3 : Int32) (S : zs_T) (Q : zs_Q) : Prop :=
  (zs_K S p0 = some (.inl 1) ∧ zs_C X d 1032 [.ref p0, .int p1, .int p2, .int p3] S (zs_kV (fun S2 => (Q (.returned none) S2)) Q))
theorem u_X2_reckon_18 {σ : Nat → Nat} {n0 : Nat} {bf : ab_B} {d : Nat} {p0 : Nat} {p1 : Int32} {p2 : Int32} {p3 : Int32} {S : zs_T} {Q : zs_Q} (hB : zt_B bf) (h : w_X2_reckon_18 (zx σ n0 bf) d p0 p1 p2 p3 S Q) : zs_U (zx σ n0 bf) d 1031 18 [(0, .ref p0), (1, .int p1), (2, .int p2), (3, .int p3)] [] S Q := by
  unfold w_X2_reckon_18 at h
  refine zu_aload_n d_1031_18 rfl (zs_ra _) ?_
  refine zu_iload_n d_1031_19 rfl ?_
  refine zu_iload_n d_1031_20 rfl ?_
  refine zu_iload_n d_1031_21 rfl ?_
  obtain ⟨k1, h⟩ := h
  refine zc_1_422 (x0 := p1) (x1 := p2) (x2 := p3) hB rfl k1 d_1031_22 (Nat.le_of_ble_eq_true rfl) h (fun S2 h => ?_)
  exact zu_vret d_1031_25 zr_1031 h
def w_X2_reckon_507 (X : zs_X) (d : Nat)  (S : zs_T) (Q : zs_Q) : Prop :=
  (Q (.returned none) S)
theorem u_X2_reckon_507 {σ : Nat → Nat} {n0 : Nat} {bf : ab_B} {d : Nat}  {S : zs_T} {Q : zs_Q} (hB : zt_B bf) (h : w_X2_reckon_507 (zx σ n0 bf) d  S Q) : zs_U (zx σ n0 bf) d 1031 507 [] [] S Q := by
  unfold w_X2_reckon_507 at h
  exact zu_vret d_1031_507 zr_1031 h
def w_X2_reckon_504 (X : zs_X) (d : Nat) (q0 : Option Nat) (q1 : Int64) (S : zs_T) (Q : zs_Q) : Prop :=
  (∃ b1, q0 = some b1 ∧ zs_K S b1 = some (.inl 1) ∧ zs_C X d 1009 [.ref b1, .long q1] S (zs_kV (fun S4 => w_X2_reckon_507 X d  S4 Q) Q))
theorem u_X2_reckon_504 {σ : Nat → Nat} {n0 : Nat} {bf : ab_B} {d : Nat} {q0 : Option Nat} {q1 : Int64} {S : zs_T} {Q : zs_Q} (hB : zt_B bf) (h : w_X2_reckon_504 (zx σ n0 bf) d q0 q1 S Q) : zs_U (zx σ n0 bf) d 1031 504 [] [.long q1, va_rf q0] S Q := by
  unfold w_X2_reckon_504 at h
  obtain ⟨b1, e2, h⟩ := h
  refine zs_stk1 (zs_rfe e2) ?_
  obtain ⟨k3, h⟩ := h
  refine zc_1_223 (x0 := q1) hB rfl k3 d_1031_504 (Nat.le_of_ble_eq_true rfl) h (fun S4 h => ?_)
  exact (u_X2_reckon_507 hB h).weak trivial
def w_X2_reckon_503 (X : zs_X) (d : Nat) (q0 : Option Nat) (S : zs_T) (Q : zs_Q) : Prop :=
  (w_X2_reckon_504 X d q0 (0 : Int64) S Q)
theorem u_X2_reckon_503 {σ : Nat → Nat} {n0 : Nat} {bf : ab_B} {d : Nat} {q0 : Option Nat} {S : zs_T} {Q : zs_Q} (hB : zt_B bf) (h : w_X2_reckon_503 (zx σ n0 bf) d q0 S Q) : zs_U (zx σ n0 bf) d 1031 503 [] [va_rf q0] S Q := by
  unfold w_X2_reckon_503 at h
  refine zu_lconst (v := 0) d_1031_503 rfl ?_
  exact (u_X2_reckon_504 hB h).weak trivial
def w_X2_reckon_475 (X : zs_X) (d : Nat) (p0 : Nat) (p4 : Int64) (p6 : Int64) (S : zs_T) (Q : zs_Q) : Prop :=
  (((p6 < (0 : Int64) → w_X2_reckon_503 X d (some p0) S Q) ∧ (¬ (p6 < (0 : Int64)) → ((((63 : Int64) < p6 → w_X2_reckon_503 X d (some p0) S Q) ∧ (¬ ((63 : Int64) < p6) → (w_X2_reckon_504 X d (some p0) ((((p4).toUInt64 >>> ((((p6).toInt32)).toInt64.toUInt64 &&& Int64.toUInt64 63)).toInt64) &&& (1 : Int64)) S Q)))))))
theorem u_X2_reckon_475 {σ : Nat → Nat} {n0 : Nat} {bf : ab_B} {d : Nat} {p0 : Nat} {p4 : Int64} {p6 : Int64} {S : zs_T} {Q : zs_Q} (hB : zt_B bf) (h : w_X2_reckon_475 (zx σ n0 bf) d p0 p4 p6 S Q) : zs_U (zx σ n0 bf) d 1031 475 [(0, .ref p0), (4, .long p4), (6, .long p6)] [] S Q := by
  unfold w_X2_reckon_475 at h
  refine zu_aload_n d_1031_475 rfl (zs_ra _) ?_
  refine zu_lload d_1031_476 rfl ?_
  refine zu_lconst (v := 0) d_1031_478 rfl ?_
  refine zu_llt (t := 503) d_1031_479 d_1031_480 rfl (fun c1 => ?_) (fun c1 => ?_)
  · have h := h.1 c1
    exact (u_X2_reckon_503 hB h).weak trivial
  · have h := h.2 c1
    refine zu_lload d_1031_483 rfl ?_
    refine zl2_1_425 rfl d_1031_485 ?_
    refine zu_lgt (t := 503) d_1031_488 d_1031_489 rfl (fun c2 => ?_) (fun c2 => ?_)
    · have h := h.1 c2
      exact (u_X2_reckon_503 hB h).weak trivial
    · have h := h.2 c2
      refine zu_lload d_1031_492 rfl ?_
      refine zu_lload d_1031_494 rfl ?_
      refine zu_stk d_1031_496 rfl rfl ?_
      refine zu_stk d_1031_497 rfl rfl ?_
      refine zu_lconst (v := 1) d_1031_498 rfl ?_
      refine zu_stk d_1031_499 rfl rfl ?_
      refine zu_goto (t := 504) d_1031_500 rfl ?_
      exact (u_X2_reckon_504 hB h).weak trivial
def w_X2_reckon_384 (X : zs_X) (d : Nat) (q0 : Option Nat) (q1 : Int64) (S : zs_T) (Q : zs_Q) : Prop :=
  (∃ b1, q0 = some b1 ∧ zs_K S b1 = some (.inl 1) ∧ zs_C X d 1009 [.ref b1, .long q1] S (zs_kV (fun S4 => (w_X2_reckon_507 X d  S4 Q)) Q))
theorem u_X2_reckon_384 {σ : Nat → Nat} {n0 : Nat} {bf : ab_B} {d : Nat} {q0 : Option Nat} {q1 : Int64} {S : zs_T} {Q : zs_Q} (hB : zt_B bf) (h : w_X2_reckon_384 (zx σ n0 bf) d q0 q1 S Q) : zs_U (zx σ n0 bf) d 1031 384 [] [.long q1, va_rf q0] S Q := by
  unfold w_X2_reckon_384 at h
  obtain ⟨b1, e2, h⟩ := h
  refine zs_stk1 (zs_rfe e2) ?_
  obtain ⟨k3, h⟩ := h
  refine zc_1_223 (x0 := q1) hB rfl k3 d_1031_384 (Nat.le_of_ble_eq_true rfl) h (fun S4 h => ?_)
  refine zu_goto (t := 507) d_1031_387 rfl ?_
  exact (u_X2_reckon_507 hB h).weak trivial
def w_X2_reckon_417 (X : zs_X) (d : Nat) (q0 : Option Nat) (q1 : Int64) (S : zs_T) (Q : zs_Q) : Prop :=
  (∃ b1, q0 = some b1 ∧ zs_K S b1 = some (.inl 1) ∧ zs_C X d 1009 [.ref b1, .long q1] S (zs_kV (fun S4 => (w_X2_reckon_507 X d  S4 Q)) Q))
theorem u_X2_reckon_417 {σ : Nat → Nat} {n0 : Nat} {bf : ab_B} {d : Nat} {q0 : Option Nat} {q1 : Int64} {S : zs_T} {Q : zs_Q} (hB : zt_B bf) (h : w_X2_reckon_417 (zx σ n0 bf) d q0 q1 S Q) : zs_U (zx σ n0 bf) d 1031 417 [] [.long q1, va_rf q0] S Q := by
  unfold w_X2_reckon_417 at h
  obtain ⟨b1, e2, h⟩ := h
  refine zs_stk1 (zs_rfe e2) ?_
  obtain ⟨k3, h⟩ := h
  refine zc_1_223 (x0 := q1) hB rfl k3 d_1031_417 (Nat.le_of_ble_eq_true rfl) h (fun S4 h => ?_)
  refine zu_goto (t := 507) d_1031_420 rfl ?_
  exact (u_X2_reckon_507 hB h).weak trivial
def w_X2_reckon_143 (X : zs_X) (d : Nat) (p0 : Nat) (p1 : Int32) (p2 : Int32) (p3 : Int32) (p4 : Int64) (p6 : Int64) (S : zs_T) (Q : zs_Q) : Prop :=
  (((p1.toInt < 16 ∨ 32 < p1.toInt → w_X2_reckon_475 X d p0 p4 p6 S Q) ∧ (p1.toInt = 16 → (zs_K S p0 = some (.inl 1) ∧ zs_C X d 1034 [.ref p0, .long (p6 + p4), .int p2] S (zs_kV (fun S3 => (w_X2_reckon_507 X d  S3 Q)) Q))) ∧ (p1.toInt = 17 → (zs_K S p0 = some (.inl 1) ∧ zs_C X d 1034 [.ref p0, .long (p6 - p4), .int p2] S (zs_kV (fun S6 => (w_X2_reckon_507 X d  S6 Q)) Q))) ∧ (p1.toInt = 18 → (zs_K S p0 = some (.inl 1) ∧ zs_C X d 1034 [.ref p0, .long (p6 * p4), .int p2] S (zs_kV (fun S9 => (w_X2_reckon_507 X d  S9 Q)) Q))) ∧ (p1.toInt = 19 → (((¬ p4 = (0 : Int64) → (¬ p4 = 0 ∧ zs_K S p0 = some (.inl 1) ∧ zs_C X d 1009 [.ref p0, .long (p6 / p4)] S (zs_kV (fun S14 => (w_X2_reckon_507 X d  S14 Q)) Q))) ∧ (¬ (¬ p4 = (0 : Int64)) → (zs_K S p0 = some (.inl 1) ∧ zs_C X d 1004 [.ref p0, .int (7 : Int32), .int p2] S (zs_kI (fun v18 S17 => (w_X2_reckon_507 X d  S17 Q)) Q)))))) ∧ (p1.toInt = 20 → ((((0 : Int64) < p4 → (¬ p4 = 0 ∧ zs_K S p0 = some (.inl 1) ∧ zs_C X d 1009 [.ref p0, .long (((p6 - p6 / p4 * p4) + p4) - ((p6 - p6 / p4 * p4) + p4) / p4 * p4)] S (zs_kV (fun S22 => (w_X2_reckon_507 X d  S22 Q)) Q))) ∧ (¬ ((0 : Int64) < p4) → (zs_K S p0 = some (.inl 1) ∧ zs_C X d 1004 [.ref p0, .int (7 : Int32), .int p2] S (zs_kI (fun v26 S25 => (w_X2_reckon_507 X d  S25 Q)) Q)))))) ∧ (p1.toInt = 21 → w_X2_reckon_475 X d p0 p4 p6 S Q) ∧ (p1.toInt = 22 → (zs_K S p0 = some (.inl 1) ∧ zs_C X d 1009 [.ref p0, .long (p6 &&& p4)] S (zs_kV (fun S28 => (w_X2_reckon_507 X d  S28 Q)) Q))) ∧ (p1.toInt = 23 → (zs_K S p0 = some (.inl 1) ∧ zs_C X d 1009 [.ref p0, .long (p6 ||| p4)] S (zs_kV (fun S31 => (w_X2_reckon_507 X d  S31 Q)) Q))) ∧ (p1.toInt = 24 → w_X2_reckon_475 X d p0 p4 p6 S Q) ∧ (p1.toInt = 25 → (zs_K S p0 = some (.inl 1) ∧ ∃ b34, (zs_R S 1000 p0) = some b34 ∧ zs_K S b34 = some (.inl 3) ∧ ∃ b37, (zs_R S 3000 b34) = some b37 ∧ zs_A S b37 0 (p3 + (2 : Int32)) ∧ zs_C X d 2 [.int (zs_i S b37 (p3 + (2 : Int32)).toNatClampNeg), .long p6, .long p4] S (zs_kI (fun v41 S40 => (((v41 = 0 → (w_X2_reckon_384 X d (some p0) (0 : Int64) S40 Q)) ∧ (¬ (v41 = 0) → (w_X2_reckon_384 X d (some p0) (1 : Int64) S40 Q))))) Q))) ∧ (p1.toInt = 26 → w_X2_reckon_475 X d p0 p4 p6 S Q) ∧ (p1.toInt = 27 → (zs_K S p0 = some (.inl 1) ∧ ∃ b44, (zs_R S 1000 p0) = some b44 ∧ zs_K S b44 = some (.inl 3) ∧ ∃ b47, (zs_R S 3000 b44) = some b47 ∧ zs_A S b47 0 (p3 + (2 : Int32)) ∧ zs_C X d 1035 [.int (zs_i S b47 (p3 + (2 : Int32)).toNatClampNeg), .long p6, .long p4] S (zs_kI (fun v51 S50 => (((v51 = 0 → (w_X2_reckon_417 X d (some p0) (0 : Int64) S50 Q)) ∧ (¬ (v51 = 0) → (w_X2_reckon_417 X d (some p0) (1 : Int64) S50 Q))))) Q))) ∧ (p1.toInt = 28 → (zs_K S p0 = some (.inl 1) ∧ zs_C X d 1009 [.ref p0, .long (p6 ||| p4)] S (zs_kV (fun S54 => (w_X2_reckon_507 X d  S54 Q)) Q))) ∧ (p1.toInt = 29 → (zs_K S p0 = some (.inl 1) ∧ zs_C X d 1009 [.ref p0, .long (p6 &&& (p4 ^^^ (-1 : Int64)))] S (zs_kV (fun S57 => (w_X2_reckon_507 X d  S57 Q)) Q))) ∧ (p1.toInt = 30 → (zs_K S p0 = some (.inl 1) ∧ zs_C X d 1009 [.ref p0, .long (p6 &&& p4)] S (zs_kV (fun S60 => (w_X2_reckon_507 X d  S60 Q)) Q))) ∧ (p1.toInt = 31 → w_X2_reckon_475 X d p0 p4 p6 S Q) ∧ (p1.toInt = 32 → (zs_K S p0 = some (.inl 1) ∧ zs_C X d 1036 [.ref p0, .long p6, .long p4, .int p2] S (zs_kV (fun S63 => (w_X2_reckon_507 X d  S63 Q)) Q)))))
theorem u_X2_reckon_143 {σ : Nat → Nat} {n0 : Nat} {bf : ab_B} {d : Nat} {p0 : Nat} {p1 : Int32} {p2 : Int32} {p3 : Int32} {p4 : Int64} {p6 : Int64} {S : zs_T} {Q : zs_Q} (hB : zt_B bf) (h : w_X2_reckon_143 (zx σ n0 bf) d p0 p1 p2 p3 p4 p6 S Q) : zs_U (zx σ n0 bf) d 1031 143 [(0, .ref p0), (1, .int p1), (2, .int p2), (3, .int p3), (4, .long p4), (6, .long p6)] [] S Q := by
  unfold w_X2_reckon_143 at h
  refine zu_iload_n d_1031_143 rfl ?_
  refine zu_tsw (td := 475) d_1031_144 (by decide) rfl (fun c1 => ?_) ⟨fun c1 => ⟨by decide, ?_⟩, fun c1 => ⟨by decide, ?_⟩, fun c1 => ⟨by decide, ?_⟩, fun c1 => ⟨by decide, ?_⟩, fun c1 => ⟨by decide, ?_⟩, fun c1 => ⟨by decide, ?_⟩, fun c1 => ⟨by decide, ?_⟩, fun c1 => ⟨by decide, ?_⟩, fun c1 => ⟨by decide, ?_⟩, fun c1 => ⟨by decide, ?_⟩, fun c1 => ⟨by decide, ?_⟩, fun c1 => ⟨by decide, ?_⟩, fun c1 => ⟨by decide, ?_⟩, fun c1 => ⟨by decide, ?_⟩, fun c1 => ⟨by decide, ?_⟩, fun c1 => ⟨by decide, ?_⟩, fun c1 => ⟨by decide, ?_⟩, trivial⟩
  · have h := h.1 c1
    exact (u_X2_reckon_475 hB h).weak ⟨rfl, rfl, rfl, trivial⟩
  · have h := h.2.1 c1
    show zs_U _ _ _ 228 _ _ _ _
    refine zu_aload_n d_1031_228 rfl (zs_ra _) ?_
    refine zu_lload d_1031_229 rfl ?_
    refine zu_lload d_1031_231 rfl ?_
    refine zu_stk d_1031_233 rfl rfl ?_
    refine zu_iload_n d_1031_234 rfl ?_
    obtain ⟨k2, h⟩ := h
    refine zc_1_427 (x0 := (p6 + p4)) (x1 := p2) hB rfl k2 d_1031_235 (Nat.le_of_ble_eq_true rfl) h (fun S3 h => ?_)
    refine zu_goto (t := 507) d_1031_238 rfl ?_
    exact (u_X2_reckon_507 hB h).weak trivial
  · have h := h.2.2.1 c1
    show zs_U _ _ _ 241 _ _ _ _
    refine zu_aload_n d_1031_241 rfl (zs_ra _) ?_
    refine zu_lload d_1031_242 rfl ?_
    refine zu_lload d_1031_244 rfl ?_
    refine zu_stk d_1031_246 rfl rfl ?_
    refine zu_iload_n d_1031_247 rfl ?_
    obtain ⟨k5, h⟩ := h
    refine zc_1_427 (x0 := (p6 - p4)) (x1 := p2) hB rfl k5 d_1031_248 (Nat.le_of_ble_eq_true rfl) h (fun S6 h => ?_)
    refine zu_goto (t := 507) d_1031_251 rfl ?_
    exact (u_X2_reckon_507 hB h).weak trivial
  · have h := h.2.2.2.1 c1
    show zs_U _ _ _ 254 _ _ _ _
    refine zu_aload_n d_1031_254 rfl (zs_ra _) ?_
    refine zu_lload d_1031_255 rfl ?_
    refine zu_lload d_1031_257 rfl ?_
    refine zu_stk d_1031_259 rfl rfl ?_
    refine zu_iload_n d_1031_260 rfl ?_
    obtain ⟨k8, h⟩ := h
    refine zc_1_427 (x0 := (p6 * p4)) (x1 := p2) hB rfl k8 d_1031_261 (Nat.le_of_ble_eq_true rfl) h (fun S9 h => ?_)
    refine zu_goto (t := 507) d_1031_264 rfl ?_
    exact (u_X2_reckon_507 hB h).weak trivial
  · have h := h.2.2.2.2.1 c1
    show zs_U _ _ _ 267 _ _ _ _
    refine zu_lload d_1031_267 rfl ?_
    refine zu_lconst (v := 0) d_1031_269 rfl ?_
    refine zu_lne (t := 285) d_1031_270 d_1031_271 rfl (fun c11 => ?_) (fun c11 => ?_)
    · have h := h.1 c11
      refine zu_aload_n d_1031_285 rfl (zs_ra _) ?_
      refine zu_lload d_1031_286 rfl ?_
      refine zu_lload d_1031_288 rfl ?_
      obtain ⟨k12, h⟩ := h
      refine zu_ldiv d_1031_290 k12 ?_
      obtain ⟨k13, h⟩ := h
      refine zc_1_223 (x0 := (p6 / p4)) hB rfl k13 d_1031_291 (Nat.le_of_ble_eq_true rfl) h (fun S14 h => ?_)
      refine zu_goto (t := 507) d_1031_294 rfl ?_
      exact (u_X2_reckon_507 hB h).weak trivial
    · have h := h.2 c11
      refine zu_aload_n d_1031_274 rfl (zs_ra _) ?_
      refine zu_bipush d_1031_275 zj_7 ?_
      refine zu_iload_n d_1031_277 rfl ?_
      obtain ⟨k16, h⟩ := h
      refine zc_1_194 (x0 := (7 : Int32)) (x1 := p2) hB rfl k16 d_1031_278 (Nat.le_of_ble_eq_true rfl) h (fun v18 S17 h => ?_)
      refine zu_pop d_1031_281 rfl ?_
      refine zu_goto (t := 507) d_1031_282 rfl ?_
      exact (u_X2_reckon_507 hB h).weak trivial
  · have h := h.2.2.2.2.2.1 c1
    show zs_U _ _ _ 297 _ _ _ _
    refine zu_lload d_1031_297 rfl ?_
    refine zu_lconst (v := 0) d_1031_299 rfl ?_
    refine zu_lgt (t := 315) d_1031_300 d_1031_301 rfl (fun c19 => ?_) (fun c19 => ?_)
    · have h := h.1 c19
      refine zu_aload_n d_1031_315 rfl (zs_ra _) ?_
      refine zu_lload d_1031_316 rfl ?_
      refine zu_lload d_1031_318 rfl ?_
      obtain ⟨k20, h⟩ := h
      refine zu_lrem d_1031_320 k20 ?_
      refine zu_lload d_1031_321 rfl ?_
      refine zu_stk d_1031_323 rfl rfl ?_
      refine zu_lload d_1031_324 rfl ?_
      refine zu_lrem d_1031_326 k20 ?_
      obtain ⟨k21, h⟩ := h
      refine zc_1_223 (x0 := (((p6 - p6 / p4 * p4) + p4) - ((p6 - p6 / p4 * p4) + p4) / p4 * p4)) hB rfl k21 d_1031_327 (Nat.le_of_ble_eq_true rfl) h (fun S22 h => ?_)
      refine zu_goto (t := 507) d_1031_330 rfl ?_
      exact (u_X2_reckon_507 hB h).weak trivial
    · have h := h.2 c19
      refine zu_aload_n d_1031_304 rfl (zs_ra _) ?_
      refine zu_bipush d_1031_305 zj_7 ?_
      refine zu_iload_n d_1031_307 rfl ?_
      obtain ⟨k24, h⟩ := h
      refine zc_1_194 (x0 := (7 : Int32)) (x1 := p2) hB rfl k24 d_1031_308 (Nat.le_of_ble_eq_true rfl) h (fun v26 S25 h => ?_)
      refine zu_pop d_1031_311 rfl ?_
      refine zu_goto (t := 507) d_1031_312 rfl ?_
      exact (u_X2_reckon_507 hB h).weak trivial
  · have h := h.2.2.2.2.2.2.1 c1
    show zs_U _ _ _ 475 _ _ _ _
    exact (u_X2_reckon_475 hB h).weak ⟨rfl, rfl, rfl, trivial⟩
  · have h := h.2.2.2.2.2.2.2.1 c1
    show zs_U _ _ _ 333 _ _ _ _
    refine zu_aload_n d_1031_333 rfl (zs_ra _) ?_
    refine zu_lload d_1031_334 rfl ?_
    refine zu_lload d_1031_336 rfl ?_
    refine zu_stk d_1031_338 rfl rfl ?_
    obtain ⟨k27, h⟩ := h
    refine zc_1_223 (x0 := (p6 &&& p4)) hB rfl k27 d_1031_339 (Nat.le_of_ble_eq_true rfl) h (fun S28 h => ?_)
    refine zu_goto (t := 507) d_1031_342 rfl ?_
    exact (u_X2_reckon_507 hB h).weak trivial
  · have h := h.2.2.2.2.2.2.2.2.1 c1
    show zs_U _ _ _ 345 _ _ _ _
    refine zu_aload_n d_1031_345 rfl (zs_ra _) ?_
    refine zu_lload d_1031_346 rfl ?_
    refine zu_lload d_1031_348 rfl ?_
    refine zu_stk d_1031_350 rfl rfl ?_
    obtain ⟨k30, h⟩ := h
    refine zc_1_223 (x0 := (p6 ||| p4)) hB rfl k30 d_1031_351 (Nat.le_of_ble_eq_true rfl) h (fun S31 h => ?_)
    refine zu_goto (t := 507) d_1031_354 rfl ?_
    exact (u_X2_reckon_507 hB h).weak trivial
  · have h := h.2.2.2.2.2.2.2.2.2.1 c1
    show zs_U _ _ _ 475 _ _ _ _
    exact (u_X2_reckon_475 hB h).weak ⟨rfl, rfl, rfl, trivial⟩
  · have h := h.2.2.2.2.2.2.2.2.2.2.1 c1
    show zs_U _ _ _ 357 _ _ _ _
    refine zu_aload_n d_1031_357 rfl (zs_ra _) ?_
    refine zu_aload_n d_1031_358 rfl (zs_ra _) ?_
    obtain ⟨k33, h⟩ := h
    refine zg_1_107 rfl d_1031_359 k33 ?_
    obtain ⟨b34, e35, h⟩ := h
    refine zs_stk0 (zs_rfe e35) ?_
    obtain ⟨k36, h⟩ := h
    refine zg_1_201 rfl d_1031_362 k36 ?_
    refine zu_iload_n d_1031_365 rfl ?_
    refine zu_iconst d_1031_366 zi_2 ?_
    refine zu_stk d_1031_367 rfl rfl ?_
    obtain ⟨b37, e38, h⟩ := h
    refine zs_stk1 (zs_rfe e38) ?_
    obtain ⟨k39, h⟩ := h
    refine zu_iald (k := 0) d_1031_368 rfl rfl k39 ?_
    refine zu_lload d_1031_369 rfl ?_
    refine zu_lload d_1031_371 rfl ?_
    refine zc_1_430 (x0 := (zs_i S b37 (p3 + (2 : Int32)).toNatClampNeg)) (x1 := p6) (x2 := p4) hB rfl d_1031_373 (Nat.le_of_ble_eq_true rfl) h (fun v41 S40 h => ?_)
    refine zu_ifeq (t := 383) d_1031_376 rfl (fun c42 => ?_) (fun c42 => ?_)
    · have h := h.1 c42
      refine zu_lconst (v := 0) d_1031_383 rfl ?_
      exact (u_X2_reckon_384 hB h).weak trivial
    · have h := h.2 c42
      refine zu_lconst (v := 1) d_1031_379 rfl ?_
      refine zu_goto (t := 384) d_1031_380 rfl ?_
      exact (u_X2_reckon_384 hB h).weak trivial
  · have h := h.2.2.2.2.2.2.2.2.2.2.2.1 c1
    show zs_U _ _ _ 475 _ _ _ _
    exact (u_X2_reckon_475 hB h).weak ⟨rfl, rfl, rfl, trivial⟩
  · have h := h.2.2.2.2.2.2.2.2.2.2.2.2.1 c1
    show zs_U _ _ _ 390 _ _ _ _
    refine zu_aload_n d_1031_390 rfl (zs_ra _) ?_
    refine zu_aload_n d_1031_391 rfl (zs_ra _) ?_
    obtain ⟨k43, h⟩ := h
    refine zg_1_107 rfl d_1031_392 k43 ?_
    obtain ⟨b44, e45, h⟩ := h
    refine zs_stk0 (zs_rfe e45) ?_
    obtain ⟨k46, h⟩ := h
    refine zg_1_201 rfl d_1031_395 k46 ?_
    refine zu_iload_n d_1031_398 rfl ?_
    refine zu_iconst d_1031_399 zi_2 ?_
    refine zu_stk d_1031_400 rfl rfl ?_
    obtain ⟨b47, e48, h⟩ := h
    refine zs_stk1 (zs_rfe e48) ?_
    obtain ⟨k49, h⟩ := h
    refine zu_iald (k := 0) d_1031_401 rfl rfl k49 ?_
    refine zu_lload d_1031_402 rfl ?_
    refine zu_lload d_1031_404 rfl ?_
    refine zc_1_434 (x0 := (zs_i S b47 (p3 + (2 : Int32)).toNatClampNeg)) (x1 := p6) (x2 := p4) hB rfl d_1031_406 (Nat.le_of_ble_eq_true rfl) h (fun v51 S50 h => ?_)
    refine zu_ifeq (t := 416) d_1031_409 rfl (fun c52 => ?_) (fun c52 => ?_)
    · have h := h.1 c52
      refine zu_lconst (v := 0) d_1031_416 rfl ?_
      exact (u_X2_reckon_417 hB h).weak trivial
    · have h := h.2 c52
      refine zu_lconst (v := 1) d_1031_412 rfl ?_
      refine zu_goto (t := 417) d_1031_413 rfl ?_
      exact (u_X2_reckon_417 hB h).weak trivial
  · have h := h.2.2.2.2.2.2.2.2.2.2.2.2.2.1 c1
    show zs_U _ _ _ 423 _ _ _ _
    refine zu_aload_n d_1031_423 rfl (zs_ra _) ?_
    refine zu_lload d_1031_424 rfl ?_
    refine zu_lload d_1031_426 rfl ?_
    refine zu_stk d_1031_428 rfl rfl ?_
    obtain ⟨k53, h⟩ := h
    refine zc_1_223 (x0 := (p6 ||| p4)) hB rfl k53 d_1031_429 (Nat.le_of_ble_eq_true rfl) h (fun S54 h => ?_)
    refine zu_goto (t := 507) d_1031_432 rfl ?_
    exact (u_X2_reckon_507 hB h).weak trivial
  · have h := h.2.2.2.2.2.2.2.2.2.2.2.2.2.2.1 c1
    show zs_U _ _ _ 435 _ _ _ _
    refine zu_aload_n d_1031_435 rfl (zs_ra _) ?_
    refine zu_lload d_1031_436 rfl ?_
    refine zu_lload d_1031_438 rfl ?_
    refine zl2_1_437 rfl d_1031_440 ?_
    refine zu_stk d_1031_443 rfl rfl ?_
    refine zu_stk d_1031_444 rfl rfl ?_
    obtain ⟨k56, h⟩ := h
    refine zc_1_223 (x0 := (p6 &&& (p4 ^^^ (-1 : Int64)))) hB rfl k56 d_1031_445 (Nat.le_of_ble_eq_true rfl) h (fun S57 h => ?_)
    refine zu_goto (t := 507) d_1031_448 rfl ?_
    exact (u_X2_reckon_507 hB h).weak trivial
  · have h := h.2.2.2.2.2.2.2.2.2.2.2.2.2.2.2.1 c1
    show zs_U _ _ _ 451 _ _ _ _
    refine zu_aload_n d_1031_451 rfl (zs_ra _) ?_
    refine zu_lload d_1031_452 rfl ?_
    refine zu_lload d_1031_454 rfl ?_
    refine zu_stk d_1031_456 rfl rfl ?_
    obtain ⟨k59, h⟩ := h
    refine zc_1_223 (x0 := (p6 &&& p4)) hB rfl k59 d_1031_457 (Nat.le_of_ble_eq_true rfl) h (fun S60 h => ?_)
    refine zu_goto (t := 507) d_1031_460 rfl ?_
    exact (u_X2_reckon_507 hB h).weak trivial
  · have h := h.2.2.2.2.2.2.2.2.2.2.2.2.2.2.2.2.1 c1
    show zs_U _ _ _ 475 _ _ _ _
    exact (u_X2_reckon_475 hB h).weak ⟨rfl, rfl, rfl, trivial⟩
  · have h := h.2.2.2.2.2.2.2.2.2.2.2.2.2.2.2.2.2 c1
    show zs_U _ _ _ 463 _ _ _ _
    refine zu_aload_n d_1031_463 rfl (zs_ra _) ?_
    refine zu_lload d_1031_464 rfl ?_
    refine zu_lload d_1031_466 rfl ?_
    refine zu_iload_n d_1031_468 rfl ?_
    obtain ⟨k62, h⟩ := h
    refine zc_1_439 (x0 := p6) (x1 := p4) (x2 := p2) hB rfl k62 d_1031_469 (Nat.le_of_ble_eq_true rfl) h (fun S63 h => ?_)
    refine zu_goto (t := 507) d_1031_472 rfl ?_
    exact (u_X2_reckon_507 hB h).weak trivial
def w_X2_reckon_95 (X : zs_X) (d : Nat) (p0 : Nat) (p2 : Int32) (S : zs_T) (Q : zs_Q) : Prop :=
  (zs_K S p0 = some (.inl 1) ∧ zs_C X d 1004 [.ref p0, .int (2 : Int32), .int p2] S (zs_kI (fun v3 S2 => (Q (.returned none) S2)) Q))
theorem u_X2_reckon_95 {σ : Nat → Nat} {n0 : Nat} {bf : ab_B} {d : Nat} {p0 : Nat} {p2 : Int32} {S : zs_T} {Q : zs_Q} (hB : zt_B bf) (h : w_X2_reckon_95 (zx σ n0 bf) d p0 p2 S Q) : zs_U (zx σ n0 bf) d 1031 95 [(0, .ref p0), (2, .int p2)] [] S Q := by
  unfold w_X2_reckon_95 at h
  refine zu_aload_n d_1031_95 rfl (zs_ra _) ?_
  refine zu_iconst d_1031_96 zi_2 ?_
  refine zu_iload_n d_1031_97 rfl ?_
  obtain ⟨k1, h⟩ := h
  refine zc_1_194 (x0 := (2 : Int32)) (x1 := p2) hB rfl k1 d_1031_98 (Nat.le_of_ble_eq_true rfl) h (fun v3 S2 h => ?_)
  refine zu_pop d_1031_101 rfl ?_
  refine zu_goto (t := 124) d_1031_102 rfl ?_
  exact zu_vret d_1031_124 zr_1031 h
def w_X2_reckon_105 (X : zs_X) (d : Nat) (p0 : Nat) (p4 : Int64) (S : zs_T) (Q : zs_Q) : Prop :=
  (zs_K S p0 = some (.inl 1) ∧ ∃ b2, (zs_R S 1005 p0) = some b2 ∧ zs_A S b2 3 ((zs_I S 1007 p0) - (1 : Int32)) ∧ ab_n0 X.1 ≤ b2 ∧ ∀ S6, S6 = zs_sj S b2 ((zs_I S 1007 p0) - (1 : Int32)).toNatClampNeg ((zs_j S b2 ((zs_I S 1007 p0) - (1 : Int32)).toNatClampNeg) ||| ((1 : Int64) <<< ((((p4).toInt32)).toInt64 &&& 63))) → Q (.returned none) S6)
theorem u_X2_reckon_105 {σ : Nat → Nat} {n0 : Nat} {bf : ab_B} {d : Nat} {p0 : Nat} {p4 : Int64} {S : zs_T} {Q : zs_Q} (hB : zt_B bf) (h : w_X2_reckon_105 (zx σ n0 bf) d p0 p4 S Q) : zs_U (zx σ n0 bf) d 1031 105 [(0, .ref p0), (4, .long p4)] [] S Q := by
  unfold w_X2_reckon_105 at h
  refine zu_aload_n d_1031_105 rfl (zs_ra _) ?_
  obtain ⟨k1, h⟩ := h
  refine zg_1_36 rfl d_1031_106 k1 ?_
  refine zu_aload_n d_1031_109 rfl (zs_ra _) ?_
  refine zg_1_111 rfl d_1031_110 k1 ?_
  refine zu_iconst d_1031_113 zi_1 ?_
  refine zu_stk d_1031_114 rfl rfl ?_
  refine zu_dup2 d_1031_115 rfl (zs_cat _) ?_
  obtain ⟨b2, e3, h⟩ := h
  refine zs_stk1 (zs_rfe e3) ?_
  obtain ⟨k4, h⟩ := h
  refine zu_lald (k := 3) d_1031_116 rfl rfl k4 ?_
  refine zu_lconst (v := 1) d_1031_117 rfl ?_
  refine zu_lload d_1031_118 rfl ?_
  refine zu_stk d_1031_120 rfl rfl ?_
  refine zu_stk d_1031_121 rfl rfl ?_
  refine zu_stk d_1031_122 rfl rfl ?_
  refine zs_stk2 (zs_rfe e3) ?_
  obtain ⟨k5, h⟩ := h
  refine zu_last (k := 3) d_1031_123 rfl rfl k5 k4 ?_
  generalize e7 : zs_sj S b2 ((zs_I S 1007 p0) - (1 : Int32)).toNatClampNeg ((zs_j S b2 ((zs_I S 1007 p0) - (1 : Int32)).toNatClampNeg) ||| ((1 : Int64) <<< ((((p4).toInt32)).toInt64 &&& 63))) = S6
  have h := h S6 e7.symm
  have K8 : ∀ b, zs_K S6 b = zs_K S b := zs_Kt e7 (zs_Ksj _ _ _ _) (fun _ => rfl)
  exact zu_vret d_1031_124 zr_1031 h
def w_X2_reckon_44 (X : zs_X) (d : Nat) (p0 : Nat) (p1 : Int32) (p2 : Int32) (p3 : Int32) (p4 : Int64) (S : zs_T) (Q : zs_Q) : Prop :=
  (((¬ p1 = (21 : Int32) → (((¬ p1 = (24 : Int32) → (((¬ p1 = (31 : Int32) → (zs_K S p0 = some (.inl 1) ∧ ab_n0 X.1 ≤ p0 ∧ ∀ S6, S6 = zs_sI S 1007 p0 ((zs_I S 1007 p0) - (1 : Int32)) → ∃ b9, (zs_R S 1005 p0) = some b9 ∧ zs_A S b9 3 ((zs_I S 1007 p0) - (1 : Int32)) ∧ w_X2_reckon_143 X d p0 p1 p2 p3 p4 (zs_j S6 b9 ((zs_I S 1007 p0) - (1 : Int32)).toNatClampNeg) S6 Q)) ∧ (¬ (¬ p1 = (31 : Int32)) → (((p4 < (0 : Int64) → w_X2_reckon_95 X d p0 p2 S Q) ∧ (¬ (p4 < (0 : Int64)) → (((p4 ≤ (63 : Int64) → w_X2_reckon_105 X d p0 p4 S Q) ∧ (¬ (p4 ≤ (63 : Int64)) → w_X2_reckon_95 X d p0 p2 S Q)))))))))) ∧ (¬ (¬ p1 = (24 : Int32)) → (zs_K S p0 = some (.inl 1) ∧ zs_C X d 1009 [.ref p0, .long ((1 : Int64) - p4)] S (zs_kV (fun S15 => (Q (.returned none) S15)) Q)))))) ∧ (¬ (¬ p1 = (21 : Int32)) → (zs_K S p0 = some (.inl 1) ∧ zs_C X d 1009 [.ref p0, .long ((-p4))] S (zs_kV (fun S18 => (Q (.returned none) S18)) Q)))))
theorem u_X2_reckon_44 {σ : Nat → Nat} {n0 : Nat} {bf : ab_B} {d : Nat} {p0 : Nat} {p1 : Int32} {p2 : Int32} {p3 : Int32} {p4 : Int64} {S : zs_T} {Q : zs_Q} (hB : zt_B bf) (h : w_X2_reckon_44 (zx σ n0 bf) d p0 p1 p2 p3 p4 S Q) : zs_U (zx σ n0 bf) d 1031 44 [(0, .ref p0), (1, .int p1), (2, .int p2), (3, .int p3), (4, .long p4)] [] S Q := by
  unfold w_X2_reckon_44 at h
  refine zu_iload_n d_1031_44 rfl ?_
  refine zu_bipush d_1031_45 zj_21 ?_
  refine zu_cmpne (t := 58) d_1031_47 rfl (fun c1 => ?_) (fun c1 => ?_)
  · have h := h.1 c1
    refine zu_iload_n d_1031_58 rfl ?_
    refine zu_bipush d_1031_59 zj_24 ?_
    refine zu_cmpne (t := 73) d_1031_61 rfl (fun c2 => ?_) (fun c2 => ?_)
    · have h := h.1 c2
      refine zu_iload_n d_1031_73 rfl ?_
      refine zu_bipush d_1031_74 zj_31 ?_
      refine zu_cmpne (t := 125) d_1031_76 rfl (fun c3 => ?_) (fun c3 => ?_)
      · have h := h.1 c3
        refine zu_aload_n d_1031_125 rfl (zs_ra _) ?_
        obtain ⟨k4, h⟩ := h
        refine zg_1_36 rfl d_1031_126 k4 ?_
        refine zu_aload_n d_1031_129 rfl (zs_ra _) ?_
        refine zu_dup d_1031_130 rfl ?_
        refine zg_1_111 rfl d_1031_131 k4 ?_
        refine zu_iconst d_1031_134 zi_1 ?_
        refine zu_stk d_1031_135 rfl rfl ?_
        refine zu_dup_x1 d_1031_136 rfl rfl ?_
        obtain ⟨k5, h⟩ := h
        refine zp_1_111 (v := ((zs_I S 1007 p0) - (1 : Int32))) rfl d_1031_137 k4 k5 ?_
        generalize e7 : zs_sI S 1007 p0 ((zs_I S 1007 p0) - (1 : Int32)) = S6
        have h := h S6 e7.symm
        have K8 : ∀ b, zs_K S6 b = zs_K S b := zs_Kt e7 (zs_KsI _ _ _ _) (fun _ => rfl)
        obtain ⟨b9, e10, h⟩ := h
        refine zs_stk1 (zs_rfe e10) ?_
        obtain ⟨k11, h⟩ := h
        refine zu_lald (k := 3) d_1031_140 rfl rfl (zs_Ak K8 k11) ?_
        refine zu_lstore d_1031_141 (zs_lt zq_1031 rfl) ?_
        exact (u_X2_reckon_143 hB h).weak ⟨rfl, rfl, rfl, rfl, rfl, rfl, trivial⟩
      · have h := h.2 c3
        refine zu_lload d_1031_79 rfl ?_
        refine zu_lconst (v := 0) d_1031_81 rfl ?_
        refine zu_llt (t := 95) d_1031_82 d_1031_83 rfl (fun c12 => ?_) (fun c12 => ?_)
        · have h := h.1 c12
          exact (u_X2_reckon_95 hB h).weak ⟨rfl, rfl, trivial⟩
        · have h := h.2 c12
          refine zu_lload d_1031_86 rfl ?_
          refine zl2_1_425 rfl d_1031_88 ?_
          refine zu_lle (t := 105) d_1031_91 d_1031_92 rfl (fun c13 => ?_) (fun c13 => ?_)
          · have h := h.1 c13
            exact (u_X2_reckon_105 hB h).weak ⟨rfl, rfl, trivial⟩
          · have h := h.2 c13
            exact (u_X2_reckon_95 hB h).weak ⟨rfl, rfl, trivial⟩
    · have h := h.2 c2
      refine zu_aload_n d_1031_64 rfl (zs_ra _) ?_
      refine zu_lconst (v := 1) d_1031_65 rfl ?_
      refine zu_lload d_1031_66 rfl ?_
      refine zu_stk d_1031_68 rfl rfl ?_
      obtain ⟨k14, h⟩ := h
      refine zc_1_223 (x0 := ((1 : Int64) - p4)) hB rfl k14 d_1031_69 (Nat.le_of_ble_eq_true rfl) h (fun S15 h => ?_)
      exact zu_vret d_1031_72 zr_1031 h
  · have h := h.2 c1
    refine zu_aload_n d_1031_50 rfl (zs_ra _) ?_
    refine zu_lload d_1031_51 rfl ?_
    refine zu_stk d_1031_53 rfl rfl ?_
    obtain ⟨k17, h⟩ := h
    refine zc_1_223 (x0 := ((-p4))) hB rfl k17 d_1031_54 (Nat.le_of_ble_eq_true rfl) h (fun S18 h => ?_)
    exact zu_vret d_1031_57 zr_1031 h
def w_X2_reckon (X : zs_X) (d : Nat) (p0 : Nat) (p1 : Int32) (p2 : Int32) (p3 : Int32) (S : zs_T) (Q : zs_Q) : Prop :=
  (((p1 = (34 : Int32) → w_X2_reckon_18 X d p0 p1 p2 p3 S Q) ∧ (¬ (p1 = (34 : Int32)) → (((p1 = (35 : Int32) → w_X2_reckon_18 X d p0 p1 p2 p3 S Q) ∧ (¬ (p1 = (35 : Int32)) → (((¬ p1 = (26 : Int32) → (zs_K S p0 = some (.inl 1) ∧ ab_n0 X.1 ≤ p0 ∧ ∀ S6, S6 = zs_sI S 1007 p0 ((zs_I S 1007 p0) - (1 : Int32)) → ∃ b9, (zs_R S 1005 p0) = some b9 ∧ zs_A S b9 3 ((zs_I S 1007 p0) - (1 : Int32)) ∧ w_X2_reckon_44 X d p0 p1 p2 p3 (zs_j S6 b9 ((zs_I S 1007 p0) - (1 : Int32)).toNatClampNeg) S6 Q)) ∧ (¬ (¬ p1 = (26 : Int32)) → w_X2_reckon_18 X d p0 p1 p2 p3 S Q)))))))))
theorem u_X2_reckon {σ : Nat → Nat} {n0 : Nat} {bf : ab_B} {d : Nat} {p0 : Nat} {p1 : Int32} {p2 : Int32} {p3 : Int32} {S : zs_T} {Q : zs_Q} (hB : zt_B bf) (hd : 1 ≤ d) (h : w_X2_reckon (zx σ n0 bf) (d - 1) p0 p1 p2 p3 S Q) : zs_C (zx σ n0 bf) d 1031 [.ref p0, .int p1, .int p2, .int p3] S Q := by
  have hL : lv_args 0 [.ref p0, .int p1, .int p2, .int p3] = [(0, .ref p0), (1, .int p1), (2, .int p2), (3, .int p3)] := rfl
  refine zs_C.of1 (hB.2 1031 (by decide) (by decide)) hd (by rw [hL]; exact zs_sub_self _ (by exact ⟨rfl, rfl, rfl, rfl, trivial⟩)) ?_
  rw [hL]
  clear hL
  unfold w_X2_reckon at h
  refine zu_iload_n d_1031_0 rfl ?_
  refine zu_bipush d_1031_1 zj_34 ?_
  refine zu_cmpeq (t := 18) d_1031_3 rfl (fun c1 => ?_) (fun c1 => ?_)
  · have h := h.1 c1
    exact (u_X2_reckon_18 hB h).weak ⟨rfl, rfl, rfl, rfl, trivial⟩
  · have h := h.2 c1
    refine zu_iload_n d_1031_6 rfl ?_
    refine zu_bipush d_1031_7 zj_35 ?_
    refine zu_cmpeq (t := 18) d_1031_9 rfl (fun c2 => ?_) (fun c2 => ?_)
    · have h := h.1 c2
      exact (u_X2_reckon_18 hB h).weak ⟨rfl, rfl, rfl, rfl, trivial⟩
    · have h := h.2 c2
      refine zu_iload_n d_1031_12 rfl ?_
      refine zu_bipush d_1031_13 zj_26 ?_
      refine zu_cmpne (t := 26) d_1031_15 rfl (fun c3 => ?_) (fun c3 => ?_)
      · have h := h.1 c3
        refine zu_aload_n d_1031_26 rfl (zs_ra _) ?_
        obtain ⟨k4, h⟩ := h
        refine zg_1_36 rfl d_1031_27 k4 ?_
        refine zu_aload_n d_1031_30 rfl (zs_ra _) ?_
        refine zu_dup d_1031_31 rfl ?_
        refine zg_1_111 rfl d_1031_32 k4 ?_
        refine zu_iconst d_1031_35 zi_1 ?_
        refine zu_stk d_1031_36 rfl rfl ?_
        refine zu_dup_x1 d_1031_37 rfl rfl ?_
        obtain ⟨k5, h⟩ := h
        refine zp_1_111 (v := ((zs_I S 1007 p0) - (1 : Int32))) rfl d_1031_38 k4 k5 ?_
        generalize e7 : zs_sI S 1007 p0 ((zs_I S 1007 p0) - (1 : Int32)) = S6
        have h := h S6 e7.symm
        have K8 : ∀ b, zs_K S6 b = zs_K S b := zs_Kt e7 (zs_KsI _ _ _ _) (fun _ => rfl)
        obtain ⟨b9, e10, h⟩ := h
        refine zs_stk1 (zs_rfe e10) ?_
        obtain ⟨k11, h⟩ := h
        refine zu_lald (k := 3) d_1031_41 rfl rfl (zs_Ak K8 k11) ?_
        refine zu_lstore d_1031_42 (zs_lt zq_1031 rfl) ?_
        exact (u_X2_reckon_44 hB h).weak ⟨rfl, rfl, rfl, rfl, rfl, trivial⟩
      · have h := h.2 c3
        exact (u_X2_reckon_18 hB h).weak ⟨rfl, rfl, rfl, rfl, trivial⟩
