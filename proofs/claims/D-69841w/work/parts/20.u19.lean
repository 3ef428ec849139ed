/-! printed by gen_all.py: what the methods compute -/
set_option maxRecDepth 100000
/-! SchemaPascalModel.simple(I)I -/
theorem zm_8121 {σ : Nat → Nat} {n0 : Nat} {bf : ab_B} : ab_code (zx σ n0 bf).1 8121 = prog_17_method_100_code := rfl
theorem zq_8121 {σ : Nat → Nat} {n0 : Nat} {bf : ab_B} : ab_maxL (zx σ n0 bf).1 8121 = 5 := rfl
theorem zr_8121 {σ : Nat → Nat} {n0 : Nat} {bf : ab_B} : ab_ret (zx σ n0 bf).1 8121 = (Option.some Jvm.ClassFile.FieldType.int) := rfl
theorem d_8121_0 {σ : Nat → Nat} {n0 : Nat} {bf : ab_B} : decode (ab_code (zx σ n0 bf).1 8121) 0 = .ok (.aload_n 0, 1) := zd zm_8121 (by decide +kernel)
theorem d_8121_1 {σ : Nat → Nat} {n0 : Nat} {bf : ab_B} : decode (ab_code (zx σ n0 bf).1 8121) 1 = .ok (.getfield 90, 3) := zd zm_8121 (by decide +kernel)
theorem d_8121_4 {σ : Nat → Nat} {n0 : Nat} {bf : ab_B} : decode (ab_code (zx σ n0 bf).1 8121) 4 = .ok (.iload_n 1, 1) := zd zm_8121 (by decide +kernel)
theorem d_8121_5 {σ : Nat → Nat} {n0 : Nat} {bf : ab_B} : decode (ab_code (zx σ n0 bf).1 8121) 5 = .ok (.baload, 1) := zd zm_8121 (by decide +kernel)
theorem d_8121_6 {σ : Nat → Nat} {n0 : Nat} {bf : ab_B} : decode (ab_code (zx σ n0 bf).1 8121) 6 = .ok (.istore_n 2, 1) := zd zm_8121 (by decide +kernel)
theorem d_8121_7 {σ : Nat → Nat} {n0 : Nat} {bf : ab_B} : decode (ab_code (zx σ n0 bf).1 8121) 7 = .ok (.iload_n 2, 1) := zd zm_8121 (by decide +kernel)
theorem d_8121_8 {σ : Nat → Nat} {n0 : Nat} {bf : ab_B} : decode (ab_code (zx σ n0 bf).1 8121) 8 = .ok (.bipush 7, 2) := zd zm_8121 (by decide +kernel)
theorem d_8121_10 {σ : Nat → Nat} {n0 : Nat} {bf : ab_B} : decode (ab_code (zx σ n0 bf).1 8121) 10 = .ok (.if_icmp .ne 33, 3) := zd zm_8121 (by decide +kernel)
theorem d_8121_13 {σ : Nat → Nat} {n0 : Nat} {bf : ab_B} : decode (ab_code (zx σ n0 bf).1 8121) 13 = .ok (.aload_n 0, 1) := zd zm_8121 (by decide +kernel)
theorem d_8121_14 {σ : Nat → Nat} {n0 : Nat} {bf : ab_B} : decode (ab_code (zx σ n0 bf).1 8121) 14 = .ok (.iload_n 1, 1) := zd zm_8121 (by decide +kernel)
theorem d_8121_15 {σ : Nat → Nat} {n0 : Nat} {bf : ab_B} : decode (ab_code (zx σ n0 bf).1 8121) 15 = .ok (.invokevirtual 795, 3) := zd zm_8121 (by decide +kernel)
theorem d_8121_18 {σ : Nat → Nat} {n0 : Nat} {bf : ab_B} : decode (ab_code (zx σ n0 bf).1 8121) 18 = .ok (.lstore_n 3, 1) := zd zm_8121 (by decide +kernel)
theorem d_8121_19 {σ : Nat → Nat} {n0 : Nat} {bf : ab_B} : decode (ab_code (zx σ n0 bf).1 8121) 19 = .ok (.lload_n 3, 1) := zd zm_8121 (by decide +kernel)
theorem d_8121_20 {σ : Nat → Nat} {n0 : Nat} {bf : ab_B} : decode (ab_code (zx σ n0 bf).1 8121) 20 = .ok (.lconst 1, 1) := zd zm_8121 (by decide +kernel)
theorem d_8121_21 {σ : Nat → Nat} {n0 : Nat} {bf : ab_B} : decode (ab_code (zx σ n0 bf).1 8121) 21 = .ok (.lcmp, 1) := zd zm_8121 (by decide +kernel)
theorem d_8121_22 {σ : Nat → Nat} {n0 : Nat} {bf : ab_B} : decode (ab_code (zx σ n0 bf).1 8121) 22 = .ok (.ifCond .lt 11, 3) := zd zm_8121 (by decide +kernel)
theorem d_8121_25 {σ : Nat → Nat} {n0 : Nat} {bf : ab_B} : decode (ab_code (zx σ n0 bf).1 8121) 25 = .ok (.lload_n 3, 1) := zd zm_8121 (by decide +kernel)
theorem d_8121_26 {σ : Nat → Nat} {n0 : Nat} {bf : ab_B} : decode (ab_code (zx σ n0 bf).1 8121) 26 = .ok (.ldc2_w 798, 3) := zd zm_8121 (by decide +kernel)
theorem d_8121_29 {σ : Nat → Nat} {n0 : Nat} {bf : ab_B} : decode (ab_code (zx σ n0 bf).1 8121) 29 = .ok (.lcmp, 1) := zd zm_8121 (by decide +kernel)
theorem d_8121_30 {σ : Nat → Nat} {n0 : Nat} {bf : ab_B} : decode (ab_code (zx σ n0 bf).1 8121) 30 = .ok (.ifCond .le 8, 3) := zd zm_8121 (by decide +kernel)
theorem d_8121_33 {σ : Nat → Nat} {n0 : Nat} {bf : ab_B} : decode (ab_code (zx σ n0 bf).1 8121) 33 = .ok (.bipush (-2), 2) := zd zm_8121 (by decide +kernel)
theorem d_8121_35 {σ : Nat → Nat} {n0 : Nat} {bf : ab_B} : decode (ab_code (zx σ n0 bf).1 8121) 35 = .ok (.goto 7, 3) := zd zm_8121 (by decide +kernel)
theorem d_8121_38 {σ : Nat → Nat} {n0 : Nat} {bf : ab_B} : decode (ab_code (zx σ n0 bf).1 8121) 38 = .ok (.iconst 1, 1) := zd zm_8121 (by decide +kernel)
theorem d_8121_39 {σ : Nat → Nat} {n0 : Nat} {bf : ab_B} : decode (ab_code (zx σ n0 bf).1 8121) 39 = .ok (.lload_n 3, 1) := zd zm_8121 (by decide +kernel)
theorem d_8121_40 {σ : Nat → Nat} {n0 : Nat} {bf : ab_B} : decode (ab_code (zx σ n0 bf).1 8121) 40 = .ok (.l2i, 1) := zd zm_8121 (by decide +kernel)
theorem d_8121_41 {σ : Nat → Nat} {n0 : Nat} {bf : ab_B} : decode (ab_code (zx σ n0 bf).1 8121) 41 = .ok (.iadd, 1) := zd zm_8121 (by decide +kernel)
theorem d_8121_42 {σ : Nat → Nat} {n0 : Nat} {bf : ab_B} : decode (ab_code (zx σ n0 bf).1 8121) 42 = .ok (.ireturn, 1) := zd zm_8121 (by decide +kernel)
theorem d_8121_43 {σ : Nat → Nat} {n0 : Nat} {bf : ab_B} : decode (ab_code (zx σ n0 bf).1 8121) 43 = .ok (.iload_n 2, 1) := zd zm_8121 (by decide +kernel)
theorem d_8121_44 {σ : Nat → Nat} {n0 : Nat} {bf : ab_B} : decode (ab_code (zx σ n0 bf).1 8121) 44 = .ok (.bipush 6, 2) := zd zm_8121 (by decide +kernel)
theorem d_8121_46 {σ : Nat → Nat} {n0 : Nat} {bf : ab_B} : decode (ab_code (zx σ n0 bf).1 8121) 46 = .ok (.if_icmp .ne 43, 3) := zd zm_8121 (by decide +kernel)
theorem d_8121_49 {σ : Nat → Nat} {n0 : Nat} {bf : ab_B} : decode (ab_code (zx σ n0 bf).1 8121) 49 = .ok (.aload_n 0, 1) := zd zm_8121 (by decide +kernel)
theorem d_8121_50 {σ : Nat → Nat} {n0 : Nat} {bf : ab_B} : decode (ab_code (zx σ n0 bf).1 8121) 50 = .ok (.aload_n 0, 1) := zd zm_8121 (by decide +kernel)
theorem d_8121_51 {σ : Nat → Nat} {n0 : Nat} {bf : ab_B} : decode (ab_code (zx σ n0 bf).1 8121) 51 = .ok (.getfield 93, 3) := zd zm_8121 (by decide +kernel)
theorem d_8121_54 {σ : Nat → Nat} {n0 : Nat} {bf : ab_B} : decode (ab_code (zx σ n0 bf).1 8121) 54 = .ok (.iload_n 1, 1) := zd zm_8121 (by decide +kernel)
theorem d_8121_55 {σ : Nat → Nat} {n0 : Nat} {bf : ab_B} : decode (ab_code (zx σ n0 bf).1 8121) 55 = .ok (.iaload, 1) := zd zm_8121 (by decide +kernel)
theorem d_8121_56 {σ : Nat → Nat} {n0 : Nat} {bf : ab_B} : decode (ab_code (zx σ n0 bf).1 8121) 56 = .ok (.invokevirtual 792, 3) := zd zm_8121 (by decide +kernel)
theorem d_8121_59 {σ : Nat → Nat} {n0 : Nat} {bf : ab_B} : decode (ab_code (zx σ n0 bf).1 8121) 59 = .ok (.ifCond .eq 27, 3) := zd zm_8121 (by decide +kernel)
theorem d_8121_62 {σ : Nat → Nat} {n0 : Nat} {bf : ab_B} : decode (ab_code (zx σ n0 bf).1 8121) 62 = .ok (.aload_n 0, 1) := zd zm_8121 (by decide +kernel)
theorem d_8121_63 {σ : Nat → Nat} {n0 : Nat} {bf : ab_B} : decode (ab_code (zx σ n0 bf).1 8121) 63 = .ok (.getfield 783, 3) := zd zm_8121 (by decide +kernel)
theorem d_8121_66 {σ : Nat → Nat} {n0 : Nat} {bf : ab_B} : decode (ab_code (zx σ n0 bf).1 8121) 66 = .ok (.lconst 0, 1) := zd zm_8121 (by decide +kernel)
theorem d_8121_67 {σ : Nat → Nat} {n0 : Nat} {bf : ab_B} : decode (ab_code (zx σ n0 bf).1 8121) 67 = .ok (.lcmp, 1) := zd zm_8121 (by decide +kernel)
theorem d_8121_68 {σ : Nat → Nat} {n0 : Nat} {bf : ab_B} : decode (ab_code (zx σ n0 bf).1 8121) 68 = .ok (.ifCond .lt 18, 3) := zd zm_8121 (by decide +kernel)
theorem d_8121_71 {σ : Nat → Nat} {n0 : Nat} {bf : ab_B} : decode (ab_code (zx σ n0 bf).1 8121) 71 = .ok (.aload_n 0, 1) := zd zm_8121 (by decide +kernel)
theorem d_8121_72 {σ : Nat → Nat} {n0 : Nat} {bf : ab_B} : decode (ab_code (zx σ n0 bf).1 8121) 72 = .ok (.getfield 786, 3) := zd zm_8121 (by decide +kernel)
theorem d_8121_75 {σ : Nat → Nat} {n0 : Nat} {bf : ab_B} : decode (ab_code (zx σ n0 bf).1 8121) 75 = .ok (.ldc2_w 800, 3) := zd zm_8121 (by decide +kernel)
theorem d_8121_78 {σ : Nat → Nat} {n0 : Nat} {bf : ab_B} : decode (ab_code (zx σ n0 bf).1 8121) 78 = .ok (.lcmp, 1) := zd zm_8121 (by decide +kernel)
theorem d_8121_79 {σ : Nat → Nat} {n0 : Nat} {bf : ab_B} : decode (ab_code (zx σ n0 bf).1 8121) 79 = .ok (.ifCond .gt 7, 3) := zd zm_8121 (by decide +kernel)
theorem d_8121_82 {σ : Nat → Nat} {n0 : Nat} {bf : ab_B} : decode (ab_code (zx σ n0 bf).1 8121) 82 = .ok (.iconst 1, 1) := zd zm_8121 (by decide +kernel)
theorem d_8121_83 {σ : Nat → Nat} {n0 : Nat} {bf : ab_B} : decode (ab_code (zx σ n0 bf).1 8121) 83 = .ok (.goto 5, 3) := zd zm_8121 (by decide +kernel)
theorem d_8121_86 {σ : Nat → Nat} {n0 : Nat} {bf : ab_B} : decode (ab_code (zx σ n0 bf).1 8121) 86 = .ok (.bipush (-2), 2) := zd zm_8121 (by decide +kernel)
theorem d_8121_88 {σ : Nat → Nat} {n0 : Nat} {bf : ab_B} : decode (ab_code (zx σ n0 bf).1 8121) 88 = .ok (.ireturn, 1) := zd zm_8121 (by decide +kernel)
theorem d_8121_89 {σ : Nat → Nat} {n0 : Nat} {bf : ab_B} : decode (ab_code (zx σ n0 bf).1 8121) 89 = .ok (.iload_n 2, 1) := zd zm_8121 (by decide +kernel)
theorem d_8121_90 {σ : Nat → Nat} {n0 : Nat} {bf : ab_B} : decode (ab_code (zx σ n0 bf).1 8121) 90 = .ok (.iconst 5, 1) := zd zm_8121 (by decide +kernel)
theorem d_8121_91 {σ : Nat → Nat} {n0 : Nat} {bf : ab_B} : decode (ab_code (zx σ n0 bf).1 8121) 91 = .ok (.if_icmp .gt 18, 3) := zd zm_8121 (by decide +kernel)
theorem d_8121_94 {σ : Nat → Nat} {n0 : Nat} {bf : ab_B} : decode (ab_code (zx σ n0 bf).1 8121) 94 = .ok (.aload_n 0, 1) := zd zm_8121 (by decide +kernel)
theorem d_8121_95 {σ : Nat → Nat} {n0 : Nat} {bf : ab_B} : decode (ab_code (zx σ n0 bf).1 8121) 95 = .ok (.iload_n 1, 1) := zd zm_8121 (by decide +kernel)
theorem d_8121_96 {σ : Nat → Nat} {n0 : Nat} {bf : ab_B} : decode (ab_code (zx σ n0 bf).1 8121) 96 = .ok (.invokevirtual 792, 3) := zd zm_8121 (by decide +kernel)
theorem d_8121_99 {σ : Nat → Nat} {n0 : Nat} {bf : ab_B} : decode (ab_code (zx σ n0 bf).1 8121) 99 = .ok (.ifCond .eq 7, 3) := zd zm_8121 (by decide +kernel)
theorem d_8121_102 {σ : Nat → Nat} {n0 : Nat} {bf : ab_B} : decode (ab_code (zx σ n0 bf).1 8121) 102 = .ok (.iconst 1, 1) := zd zm_8121 (by decide +kernel)
theorem d_8121_103 {σ : Nat → Nat} {n0 : Nat} {bf : ab_B} : decode (ab_code (zx σ n0 bf).1 8121) 103 = .ok (.goto 5, 3) := zd zm_8121 (by decide +kernel)
theorem d_8121_106 {σ : Nat → Nat} {n0 : Nat} {bf : ab_B} : decode (ab_code (zx σ n0 bf).1 8121) 106 = .ok (.bipush (-2), 2) := zd zm_8121 (by decide +kernel)
theorem d_8121_108 {σ : Nat → Nat} {n0 : Nat} {bf : ab_B} : decode (ab_code (zx σ n0 bf).1 8121) 108 = .ok (.ireturn, 1) := zd zm_8121 (by decide +kernel)
theorem d_8121_109 {σ : Nat → Nat} {n0 : Nat} {bf : ab_B} : decode (ab_code (zx σ n0 bf).1 8121) 109 = .ok (.iload_n 2, 1) := zd zm_8121 (by decide +kernel)
theorem d_8121_110 {σ : Nat → Nat} {n0 : Nat} {bf : ab_B} : decode (ab_code (zx σ n0 bf).1 8121) 110 = .ok (.bipush 10, 2) := zd zm_8121 (by decide +kernel)
theorem d_8121_112 {σ : Nat → Nat} {n0 : Nat} {bf : ab_B} : decode (ab_code (zx σ n0 bf).1 8121) 112 = .ok (.if_icmp .ne 7, 3) := zd zm_8121 (by decide +kernel)
theorem d_8121_115 {σ : Nat → Nat} {n0 : Nat} {bf : ab_B} : decode (ab_code (zx σ n0 bf).1 8121) 115 = .ok (.iconst 1, 1) := zd zm_8121 (by decide +kernel)
theorem d_8121_116 {σ : Nat → Nat} {n0 : Nat} {bf : ab_B} : decode (ab_code (zx σ n0 bf).1 8121) 116 = .ok (.goto 4, 3) := zd zm_8121 (by decide +kernel)
theorem d_8121_119 {σ : Nat → Nat} {n0 : Nat} {bf : ab_B} : decode (ab_code (zx σ n0 bf).1 8121) 119 = .ok (.iconst (-1), 1) := zd zm_8121 (by decide +kernel)
theorem d_8121_120 {σ : Nat → Nat} {n0 : Nat} {bf : ab_B} : decode (ab_code (zx σ n0 bf).1 8121) 120 = .ok (.ireturn, 1) := zd zm_8121 (by decide +kernel)
def w_X9_simple_33 (X : zs_X) (d : Nat)  (S : zs_T) (Q : zs_Q) : Prop :=
  (Q (.returned (some (.int (-2 : Int32)))) S)
theorem u_X9_simple_33 {σ : Nat → Nat} {n0 : Nat} {bf : ab_B} {d : Nat}  {S : zs_T} {Q : zs_Q} (hB : zt_B bf) (h : w_X9_simple_33 (zx σ n0 bf) d  S Q) : zs_U (zx σ n0 bf) d 8121 33 [] [] S Q := by
  unfold w_X9_simple_33 at h
  refine zu_bipush d_8121_33 zj_m2 ?_
  refine zu_goto (t := 42) d_8121_35 rfl ?_
  exact zu_iret d_8121_42 zr_8121 rfl h
def w_X9_simple_25 (X : zs_X) (d : Nat) (p3 : Int64) (S : zs_T) (Q : zs_Q) : Prop :=
  (((p3 ≤ (80 : Int64) → (Q (.returned (some (.int ((1 : Int32) + ((p3).toInt32))))) S)) ∧ (¬ (p3 ≤ (80 : Int64)) → w_X9_simple_33 X d  S Q)))
theorem u_X9_simple_25 {σ : Nat → Nat} {n0 : Nat} {bf : ab_B} {d : Nat} {p3 : Int64} {S : zs_T} {Q : zs_Q} (hB : zt_B bf) (h : w_X9_simple_25 (zx σ n0 bf) d p3 S Q) : zs_U (zx σ n0 bf) d 8121 25 [(3, .long p3)] [] S Q := by
  unfold w_X9_simple_25 at h
  refine zu_lload_n d_8121_25 rfl ?_
  refine zl2_8_798 rfl d_8121_26 ?_
  refine zu_lle (t := 38) d_8121_29 d_8121_30 rfl (fun c1 => ?_) (fun c1 => ?_)
  · have h := h.1 c1
    refine zu_iconst d_8121_38 zi_1 ?_
    refine zu_lload_n d_8121_39 rfl ?_
    refine zu_stk d_8121_40 rfl rfl ?_
    refine zu_stk d_8121_41 rfl rfl ?_
    exact zu_iret d_8121_42 zr_8121 rfl h
  · have h := h.2 c1
    exact (u_X9_simple_33 hB h).weak trivial
def w_X9_simple_86 (X : zs_X) (d : Nat)  (S : zs_T) (Q : zs_Q) : Prop :=
  (Q (.returned (some (.int (-2 : Int32)))) S)
theorem u_X9_simple_86 {σ : Nat → Nat} {n0 : Nat} {bf : ab_B} {d : Nat}  {S : zs_T} {Q : zs_Q} (hB : zt_B bf) (h : w_X9_simple_86 (zx σ n0 bf) d  S Q) : zs_U (zx σ n0 bf) d 8121 86 [] [] S Q := by
  unfold w_X9_simple_86 at h
  refine zu_bipush d_8121_86 zj_m2 ?_
  exact zu_iret d_8121_88 zr_8121 rfl h
def w_X9_simple_62 (X : zs_X) (d : Nat) (p0 : Nat) (S : zs_T) (Q : zs_Q) : Prop :=
  (zs_K S p0 = some (.inl 8) ∧ (((zs_J S 8125 p0) < (0 : Int64) → w_X9_simple_86 X d  S Q) ∧ (¬ ((zs_J S 8125 p0) < (0 : Int64)) → ((((63 : Int64) < (zs_J S 8126 p0) → w_X9_simple_86 X d  S Q) ∧ (¬ ((63 : Int64) < (zs_J S 8126 p0)) → (Q (.returned (some (.int (1 : Int32)))) S)))))))
theorem u_X9_simple_62 {σ : Nat → Nat} {n0 : Nat} {bf : ab_B} {d : Nat} {p0 : Nat} {S : zs_T} {Q : zs_Q} (hB : zt_B bf) (h : w_X9_simple_62 (zx σ n0 bf) d p0 S Q) : zs_U (zx σ n0 bf) d 8121 62 [(0, .ref p0)] [] S Q := by
  unfold w_X9_simple_62 at h
  refine zu_aload_n d_8121_62 rfl (zs_ra _) ?_
  obtain ⟨k1, h⟩ := h
  refine zg_8_783 rfl d_8121_63 k1 ?_
  refine zu_lconst (v := 0) d_8121_66 rfl ?_
  refine zu_llt (t := 86) d_8121_67 d_8121_68 rfl (fun c2 => ?_) (fun c2 => ?_)
  · have h := h.1 c2
    exact (u_X9_simple_86 hB h).weak trivial
  · have h := h.2 c2
    refine zu_aload_n d_8121_71 rfl (zs_ra _) ?_
    refine zg_8_786 rfl d_8121_72 k1 ?_
    refine zl2_8_800 rfl d_8121_75 ?_
    refine zu_lgt (t := 86) d_8121_78 d_8121_79 rfl (fun c3 => ?_) (fun c3 => ?_)
    · have h := h.1 c3
      exact (u_X9_simple_86 hB h).weak trivial
    · have h := h.2 c3
      refine zu_iconst d_8121_82 zi_1 ?_
      refine zu_goto (t := 88) d_8121_83 rfl ?_
      exact zu_iret d_8121_88 zr_8121 rfl h
def w_X9_simple_102 (X : zs_X) (d : Nat)  (S : zs_T) (Q : zs_Q) : Prop :=
  (Q (.returned (some (.int (1 : Int32)))) S)
theorem u_X9_simple_102 {σ : Nat → Nat} {n0 : Nat} {bf : ab_B} {d : Nat}  {S : zs_T} {Q : zs_Q} (hB : zt_B bf) (h : w_X9_simple_102 (zx σ n0 bf) d  S Q) : zs_U (zx σ n0 bf) d 8121 102 [] [] S Q := by
  unfold w_X9_simple_102 at h
  refine zu_iconst d_8121_102 zi_1 ?_
  refine zu_goto (t := 108) d_8121_103 rfl ?_
  exact zu_iret d_8121_108 zr_8121 rfl h
def w_X9_simple_106 (X : zs_X) (d : Nat)  (S : zs_T) (Q : zs_Q) : Prop :=
  (Q (.returned (some (.int (-2 : Int32)))) S)
theorem u_X9_simple_106 {σ : Nat → Nat} {n0 : Nat} {bf : ab_B} {d : Nat}  {S : zs_T} {Q : zs_Q} (hB : zt_B bf) (h : w_X9_simple_106 (zx σ n0 bf) d  S Q) : zs_U (zx σ n0 bf) d 8121 106 [] [] S Q := by
  unfold w_X9_simple_106 at h
  refine zu_bipush d_8121_106 zj_m2 ?_
  exact zu_iret d_8121_108 zr_8121 rfl h
def w_X9_simple_115 (X : zs_X) (d : Nat)  (S : zs_T) (Q : zs_Q) : Prop :=
  (Q (.returned (some (.int (1 : Int32)))) S)
theorem u_X9_simple_115 {σ : Nat → Nat} {n0 : Nat} {bf : ab_B} {d : Nat}  {S : zs_T} {Q : zs_Q} (hB : zt_B bf) (h : w_X9_simple_115 (zx σ n0 bf) d  S Q) : zs_U (zx σ n0 bf) d 8121 115 [] [] S Q := by
  unfold w_X9_simple_115 at h
  refine zu_iconst d_8121_115 zi_1 ?_
  refine zu_goto (t := 120) d_8121_116 rfl ?_
  exact zu_iret d_8121_120 zr_8121 rfl h
def w_X9_simple_119 (X : zs_X) (d : Nat)  (S : zs_T) (Q : zs_Q) : Prop :=
  (Q (.returned (some (.int (-1 : Int32)))) S)
theorem u_X9_simple_119 {σ : Nat → Nat} {n0 : Nat} {bf : ab_B} {d : Nat}  {S : zs_T} {Q : zs_Q} (hB : zt_B bf) (h : w_X9_simple_119 (zx σ n0 bf) d  S Q) : zs_U (zx σ n0 bf) d 8121 119 [] [] S Q := by
  unfold w_X9_simple_119 at h
  refine zu_iconst d_8121_119 zi_m1 ?_
  exact zu_iret d_8121_120 zr_8121 rfl h
def w_X9_simple (X : zs_X) (d : Nat) (p0 : Nat) (p1 : Int32) (S : zs_T) (Q : zs_Q) : Prop :=
  (zs_K S p0 = some (.inl 8) ∧ ∃ b2, (zs_R S 8044 p0) = some b2 ∧ zs_A S b2 1 p1 ∧ ((¬ (zs_i S b2 p1.toNatClampNeg) = (7 : Int32) → (((¬ (zs_i S b2 p1.toNatClampNeg) = (6 : Int32) → ((((5 : Int32) < (zs_i S b2 p1.toNatClampNeg) → (((¬ (zs_i S b2 p1.toNatClampNeg) = (10 : Int32) → w_X9_simple_119 X d  S Q) ∧ (¬ (¬ (zs_i S b2 p1.toNatClampNeg) = (10 : Int32)) → w_X9_simple_115 X d  S Q)))) ∧ (¬ ((5 : Int32) < (zs_i S b2 p1.toNatClampNeg)) → (zs_C X d 8123 [.ref p0, .int p1] S (zs_kI (fun v10 S9 => (((v10 = 0 → w_X9_simple_106 X d  S9 Q) ∧ (¬ (v10 = 0) → w_X9_simple_102 X d  S9 Q)))) Q)))))) ∧ (¬ (¬ (zs_i S b2 p1.toNatClampNeg) = (6 : Int32)) → (∃ b12, (zs_R S 8045 p0) = some b12 ∧ zs_A S b12 0 p1 ∧ zs_C X d 8123 [.ref p0, .int (zs_i S b12 p1.toNatClampNeg)] S (zs_kI (fun v16 S15 => (((v16 = 0 → w_X9_simple_86 X d  S15 Q) ∧ (¬ (v16 = 0) → w_X9_simple_62 X d p0 S15 Q)))) Q)))))) ∧ (¬ (¬ (zs_i S b2 p1.toNatClampNeg) = (7 : Int32)) → (zs_C X d 8122 [.ref p0, .int p1] S (zs_kJ (fun v19 S18 => (((v19 < (1 : Int64) → w_X9_simple_33 X d  S18 Q) ∧ (¬ (v19 < (1 : Int64)) → w_X9_simple_25 X d v19 S18 Q)))) Q)))))
theorem u_X9_simple {σ : Nat → Nat} {n0 : Nat} {bf : ab_B} {d : Nat} {p0 : Nat} {p1 : Int32} {S : zs_T} {Q : zs_Q} (hB : zt_B bf) (hd : 1 ≤ d) (h : w_X9_simple (zx σ n0 bf) (d - 1) p0 p1 S Q) : zs_C (zx σ n0 bf) d 8121 [.ref p0, .int p1] S Q := by
  have hL : lv_args 0 [.ref p0, .int p1] = [(0, .ref p0), (1, .int p1)] := rfl
  refine zs_C.of1 (hB.2 8121 (by decide) (by decide)) hd (by rw [hL]; exact zs_sub_self _ (by exact ⟨rfl, rfl, trivial⟩)) ?_
  rw [hL]
  clear hL
  unfold w_X9_simple at h
  refine zu_aload_n d_8121_0 rfl (zs_ra _) ?_
  obtain ⟨k1, h⟩ := h
  refine zg_8_90 rfl d_8121_1 k1 ?_
  refine zu_iload_n d_8121_4 rfl ?_
  obtain ⟨b2, e3, h⟩ := h
  refine zs_stk1 (zs_rfe e3) ?_
  obtain ⟨k4, h⟩ := h
  refine zu_bald (k := 1) d_8121_5 rfl (Or.inl rfl) k4 ?_
  refine zu_istore_n d_8121_6 (zs_lt zq_8121 rfl) ?_
  refine zu_iload_n d_8121_7 rfl ?_
  refine zu_bipush d_8121_8 zj_7 ?_
  refine zu_cmpne (t := 43) d_8121_10 rfl (fun c5 => ?_) (fun c5 => ?_)
  · have h := h.1 c5
    refine zu_iload_n d_8121_43 rfl ?_
    refine zu_bipush d_8121_44 zj_6 ?_
    refine zu_cmpne (t := 89) d_8121_46 rfl (fun c6 => ?_) (fun c6 => ?_)
    · have h := h.1 c6
      refine zu_iload_n d_8121_89 rfl ?_
      refine zu_iconst d_8121_90 zi_5 ?_
      refine zu_cmpgt (t := 109) d_8121_91 rfl (fun c7 => ?_) (fun c7 => ?_)
      · have h := h.1 c7
        refine zu_iload_n d_8121_109 rfl ?_
        refine zu_bipush d_8121_110 zj_10 ?_
        refine zu_cmpne (t := 119) d_8121_112 rfl (fun c8 => ?_) (fun c8 => ?_)
        · have h := h.1 c8
          exact (u_X9_simple_119 hB h).weak trivial
        · have h := h.2 c8
          exact (u_X9_simple_115 hB h).weak trivial
      · have h := h.2 c7
        refine zu_aload_n d_8121_94 rfl (zs_ra _) ?_
        refine zu_iload_n d_8121_95 rfl ?_
        refine zc_8_792 (x0 := p1) hB rfl k1 d_8121_96 (Nat.le_of_ble_eq_true rfl) h (fun v10 S9 h => ?_)
        refine zu_ifeq (t := 106) d_8121_99 rfl (fun c11 => ?_) (fun c11 => ?_)
        · have h := h.1 c11
          exact (u_X9_simple_106 hB h).weak trivial
        · have h := h.2 c11
          exact (u_X9_simple_102 hB h).weak trivial
    · have h := h.2 c6
      refine zu_aload_n d_8121_49 rfl (zs_ra _) ?_
      refine zu_aload_n d_8121_50 rfl (zs_ra _) ?_
      refine zg_8_93 rfl d_8121_51 k1 ?_
      refine zu_iload_n d_8121_54 rfl ?_
      obtain ⟨b12, e13, h⟩ := h
      refine zs_stk1 (zs_rfe e13) ?_
      obtain ⟨k14, h⟩ := h
      refine zu_iald (k := 0) d_8121_55 rfl rfl k14 ?_
      refine zc_8_792 (x0 := (zs_i S b12 p1.toNatClampNeg)) hB rfl k1 d_8121_56 (Nat.le_of_ble_eq_true rfl) h (fun v16 S15 h => ?_)
      refine zu_ifeq (t := 86) d_8121_59 rfl (fun c17 => ?_) (fun c17 => ?_)
      · have h := h.1 c17
        exact (u_X9_simple_86 hB h).weak trivial
      · have h := h.2 c17
        exact (u_X9_simple_62 hB h).weak ⟨rfl, trivial⟩
  · have h := h.2 c5
    refine zu_aload_n d_8121_13 rfl (zs_ra _) ?_
    refine zu_iload_n d_8121_14 rfl ?_
    refine zc_8_795 (x0 := p1) hB rfl k1 d_8121_15 (Nat.le_of_ble_eq_true rfl) h (fun v19 S18 h => ?_)
    refine zu_lstore_n d_8121_18 (zs_lt zq_8121 rfl) ?_
    refine zu_lload_n d_8121_19 rfl ?_
    refine zu_lconst (v := 1) d_8121_20 rfl ?_
    refine zu_llt (t := 33) d_8121_21 d_8121_22 rfl (fun c20 => ?_) (fun c20 => ?_)
    · have h := h.1 c20
      exact (u_X9_simple_33 hB h).weak trivial
    · have h := h.2 c20
      exact (u_X9_simple_25 hB h).weak ⟨rfl, trivial⟩
/-! SchemaPascalModel.capacity(I)J -/
theorem zm_8122 {σ : Nat → Nat} {n0 : Nat} {bf : ab_B} : ab_code (zx σ n0 bf).1 8122 = prog_17_method_98_code := rfl
theorem zq_8122 {σ : Nat → Nat} {n0 : Nat} {bf : ab_B} : ab_maxL (zx σ n0 bf).1 8122 = 4 := rfl
theorem zr_8122 {σ : Nat → Nat} {n0 : Nat} {bf : ab_B} : ab_ret (zx σ n0 bf).1 8122 = (Option.some Jvm.ClassFile.FieldType.long) := rfl
theorem d_8122_0 {σ : Nat → Nat} {n0 : Nat} {bf : ab_B} : decode (ab_code (zx σ n0 bf).1 8122) 0 = .ok (.aload_n 0, 1) := zd zm_8122 (by decide +kernel)
theorem d_8122_1 {σ : Nat → Nat} {n0 : Nat} {bf : ab_B} : decode (ab_code (zx σ n0 bf).1 8122) 1 = .ok (.getfield 105, 3) := zd zm_8122 (by decide +kernel)
theorem d_8122_4 {σ : Nat → Nat} {n0 : Nat} {bf : ab_B} : decode (ab_code (zx σ n0 bf).1 8122) 4 = .ok (.iload_n 1, 1) := zd zm_8122 (by decide +kernel)
theorem d_8122_5 {σ : Nat → Nat} {n0 : Nat} {bf : ab_B} : decode (ab_code (zx σ n0 bf).1 8122) 5 = .ok (.baload, 1) := zd zm_8122 (by decide +kernel)
theorem d_8122_6 {σ : Nat → Nat} {n0 : Nat} {bf : ab_B} : decode (ab_code (zx σ n0 bf).1 8122) 6 = .ok (.ifCond .eq 16, 3) := zd zm_8122 (by decide +kernel)
theorem d_8122_9 {σ : Nat → Nat} {n0 : Nat} {bf : ab_B} : decode (ab_code (zx σ n0 bf).1 8122) 9 = .ok (.aload_n 0, 1) := zd zm_8122 (by decide +kernel)
theorem d_8122_10 {σ : Nat → Nat} {n0 : Nat} {bf : ab_B} : decode (ab_code (zx σ n0 bf).1 8122) 10 = .ok (.aload_n 0, 1) := zd zm_8122 (by decide +kernel)
theorem d_8122_11 {σ : Nat → Nat} {n0 : Nat} {bf : ab_B} : decode (ab_code (zx σ n0 bf).1 8122) 11 = .ok (.getfield 99, 3) := zd zm_8122 (by decide +kernel)
theorem d_8122_14 {σ : Nat → Nat} {n0 : Nat} {bf : ab_B} : decode (ab_code (zx σ n0 bf).1 8122) 14 = .ok (.iload_n 1, 1) := zd zm_8122 (by decide +kernel)
theorem d_8122_15 {σ : Nat → Nat} {n0 : Nat} {bf : ab_B} : decode (ab_code (zx σ n0 bf).1 8122) 15 = .ok (.iaload, 1) := zd zm_8122 (by decide +kernel)
theorem d_8122_16 {σ : Nat → Nat} {n0 : Nat} {bf : ab_B} : decode (ab_code (zx σ n0 bf).1 8122) 16 = .ok (.invokevirtual 780, 3) := zd zm_8122 (by decide +kernel)
theorem d_8122_19 {σ : Nat → Nat} {n0 : Nat} {bf : ab_B} : decode (ab_code (zx σ n0 bf).1 8122) 19 = .ok (.goto 10, 3) := zd zm_8122 (by decide +kernel)
theorem d_8122_22 {σ : Nat → Nat} {n0 : Nat} {bf : ab_B} : decode (ab_code (zx σ n0 bf).1 8122) 22 = .ok (.aload_n 0, 1) := zd zm_8122 (by decide +kernel)
theorem d_8122_23 {σ : Nat → Nat} {n0 : Nat} {bf : ab_B} : decode (ab_code (zx σ n0 bf).1 8122) 23 = .ok (.getfield 99, 3) := zd zm_8122 (by decide +kernel)
theorem d_8122_26 {σ : Nat → Nat} {n0 : Nat} {bf : ab_B} : decode (ab_code (zx σ n0 bf).1 8122) 26 = .ok (.iload_n 1, 1) := zd zm_8122 (by decide +kernel)
theorem d_8122_27 {σ : Nat → Nat} {n0 : Nat} {bf : ab_B} : decode (ab_code (zx σ n0 bf).1 8122) 27 = .ok (.iaload, 1) := zd zm_8122 (by decide +kernel)
theorem d_8122_28 {σ : Nat → Nat} {n0 : Nat} {bf : ab_B} : decode (ab_code (zx σ n0 bf).1 8122) 28 = .ok (.i2l, 1) := zd zm_8122 (by decide +kernel)
theorem d_8122_29 {σ : Nat → Nat} {n0 : Nat} {bf : ab_B} : decode (ab_code (zx σ n0 bf).1 8122) 29 = .ok (.lstore_n 2, 1) := zd zm_8122 (by decide +kernel)
theorem d_8122_30 {σ : Nat → Nat} {n0 : Nat} {bf : ab_B} : decode (ab_code (zx σ n0 bf).1 8122) 30 = .ok (.aload_n 0, 1) := zd zm_8122 (by decide +kernel)
theorem d_8122_31 {σ : Nat → Nat} {n0 : Nat} {bf : ab_B} : decode (ab_code (zx σ n0 bf).1 8122) 31 = .ok (.getfield 105, 3) := zd zm_8122 (by decide +kernel)
theorem d_8122_34 {σ : Nat → Nat} {n0 : Nat} {bf : ab_B} : decode (ab_code (zx σ n0 bf).1 8122) 34 = .ok (.iload_n 1, 1) := zd zm_8122 (by decide +kernel)
theorem d_8122_35 {σ : Nat → Nat} {n0 : Nat} {bf : ab_B} : decode (ab_code (zx σ n0 bf).1 8122) 35 = .ok (.baload, 1) := zd zm_8122 (by decide +kernel)
theorem d_8122_36 {σ : Nat → Nat} {n0 : Nat} {bf : ab_B} : decode (ab_code (zx σ n0 bf).1 8122) 36 = .ok (.ifCond .eq 14, 3) := zd zm_8122 (by decide +kernel)
theorem d_8122_39 {σ : Nat → Nat} {n0 : Nat} {bf : ab_B} : decode (ab_code (zx σ n0 bf).1 8122) 39 = .ok (.aload_n 0, 1) := zd zm_8122 (by decide +kernel)
theorem d_8122_40 {σ : Nat → Nat} {n0 : Nat} {bf : ab_B} : decode (ab_code (zx σ n0 bf).1 8122) 40 = .ok (.getfield 623, 3) := zd zm_8122 (by decide +kernel)
theorem d_8122_43 {σ : Nat → Nat} {n0 : Nat} {bf : ab_B} : decode (ab_code (zx σ n0 bf).1 8122) 43 = .ok (.ifCond .eq 7, 3) := zd zm_8122 (by decide +kernel)
theorem d_8122_46 {σ : Nat → Nat} {n0 : Nat} {bf : ab_B} : decode (ab_code (zx σ n0 bf).1 8122) 46 = .ok (.lconst 0, 1) := zd zm_8122 (by decide +kernel)
theorem d_8122_47 {σ : Nat → Nat} {n0 : Nat} {bf : ab_B} : decode (ab_code (zx σ n0 bf).1 8122) 47 = .ok (.goto 4, 3) := zd zm_8122 (by decide +kernel)
theorem d_8122_50 {σ : Nat → Nat} {n0 : Nat} {bf : ab_B} : decode (ab_code (zx σ n0 bf).1 8122) 50 = .ok (.lload_n 2, 1) := zd zm_8122 (by decide +kernel)
theorem d_8122_51 {σ : Nat → Nat} {n0 : Nat} {bf : ab_B} : decode (ab_code (zx σ n0 bf).1 8122) 51 = .ok (.lreturn, 1) := zd zm_8122 (by decide +kernel)
def w_X9_capacity_29 (X : zs_X) (d : Nat) (p0 : Nat) (p1 : Int32) (q0 : Int64) (S : zs_T) (Q : zs_Q) : Prop :=
  (zs_K S p0 = some (.inl 8) ∧ ∃ b2, (zs_R S 8049 p0) = some b2 ∧ zs_A S b2 2 p1 ∧ (((zs_i S b2 p1.toNatClampNeg) = 0 → (Q (.returned (some (.long q0))) S)) ∧ (¬ ((zs_i S b2 p1.toNatClampNeg) = 0) → ((((zs_I S 8080 p0) = 0 → (Q (.returned (some (.long q0))) S)) ∧ (¬ ((zs_I S 8080 p0) = 0) → (Q (.returned (some (.long (0 : Int64)))) S)))))))
theorem u_X9_capacity_29 {σ : Nat → Nat} {n0 : Nat} {bf : ab_B} {d : Nat} {p0 : Nat} {p1 : Int32} {q0 : Int64} {S : zs_T} {Q : zs_Q} (hB : zt_B bf) (h : w_X9_capacity_29 (zx σ n0 bf) d p0 p1 q0 S Q) : zs_U (zx σ n0 bf) d 8122 29 [(0, .ref p0), (1, .int p1)] [.long q0] S Q := by
  unfold w_X9_capacity_29 at h
  refine zu_lstore_n d_8122_29 (zs_lt zq_8122 rfl) ?_
  refine zu_aload_n d_8122_30 rfl (zs_ra _) ?_
  obtain ⟨k1, h⟩ := h
  refine zg_8_105 rfl d_8122_31 k1 ?_
  refine zu_iload_n d_8122_34 rfl ?_
  obtain ⟨b2, e3, h⟩ := h
  refine zs_stk1 (zs_rfe e3) ?_
  obtain ⟨k4, h⟩ := h
  refine zu_bald (k := 2) d_8122_35 rfl (Or.inr rfl) k4 ?_
  refine zu_ifeq (t := 50) d_8122_36 rfl (fun c5 => ?_) (fun c5 => ?_)
  · have h := h.1 c5
    refine zu_lload_n d_8122_50 rfl ?_
    exact zu_lret d_8122_51 zr_8122 h
  · have h := h.2 c5
    refine zu_aload_n d_8122_39 rfl (zs_ra _) ?_
    refine zg_8_623 rfl d_8122_40 k1 ?_
    refine zu_ifeq (t := 50) d_8122_43 rfl (fun c6 => ?_) (fun c6 => ?_)
    · have h := h.1 c6
      refine zu_lload_n d_8122_50 rfl ?_
      exact zu_lret d_8122_51 zr_8122 h
    · have h := h.2 c6
      refine zu_lconst (v := 0) d_8122_46 rfl ?_
      refine zu_goto (t := 51) d_8122_47 rfl ?_
      exact zu_lret d_8122_51 zr_8122 h
def w_X9_capacity (X : zs_X) (d : Nat) (p0 : Nat) (p1 : Int32) (S : zs_T) (Q : zs_Q) : Prop :=
  (zs_K S p0 = some (.inl 8) ∧ ∃ b2, (zs_R S 8049 p0) = some b2 ∧ zs_A S b2 2 p1 ∧ (((zs_i S b2 p1.toNatClampNeg) = 0 → (∃ b6, (zs_R S 8047 p0) = some b6 ∧ zs_A S b6 0 p1 ∧ w_X9_capacity_29 X d p0 p1 (((zs_i S b6 p1.toNatClampNeg)).toInt64) S Q)) ∧ (¬ ((zs_i S b2 p1.toNatClampNeg) = 0) → (∃ b9, (zs_R S 8047 p0) = some b9 ∧ zs_A S b9 0 p1 ∧ zs_C X d 8104 [.ref p0, .int (zs_i S b9 p1.toNatClampNeg)] S (zs_kJ (fun v13 S12 => (w_X9_capacity_29 X d p0 p1 v13 S12 Q)) Q)))))
theorem u_X9_capacity {σ : Nat → Nat} {n0 : Nat} {bf : ab_B} {d : Nat} {p0 : Nat} {p1 : Int32} {S : zs_T} {Q : zs_Q} (hB : zt_B bf) (hd : 1 ≤ d) (h : w_X9_capacity (zx σ n0 bf) (d - 1) p0 p1 S Q) : zs_C (zx σ n0 bf) d 8122 [.ref p0, .int p1] S Q := by
  have hL : lv_args 0 [.ref p0, .int p1] = [(0, .ref p0), (1, .int p1)] := rfl
  refine zs_C.of1 (hB.2 8122 (by decide) (by decide)) hd (by rw [hL]; exact zs_sub_self _ (by exact ⟨rfl, rfl, trivial⟩)) ?_
  rw [hL]
  clear hL
  unfold w_X9_capacity at h
  refine zu_aload_n d_8122_0 rfl (zs_ra _) ?_
  obtain ⟨k1, h⟩ := h
  refine zg_8_105 rfl d_8122_1 k1 ?_
  refine zu_iload_n d_8122_4 rfl ?_
  obtain ⟨b2, e3, h⟩ := h
  refine zs_stk1 (zs_rfe e3) ?_
  obtain ⟨k4, h⟩ := h
  refine zu_bald (k := 2) d_8122_5 rfl (Or.inr rfl) k4 ?_
  refine zu_ifeq (t := 22) d_8122_6 rfl (fun c5 => ?_) (fun c5 => ?_)
  · have h := h.1 c5
    refine zu_aload_n d_8122_22 rfl (zs_ra _) ?_
    refine zg_8_99 rfl d_8122_23 k1 ?_
    refine zu_iload_n d_8122_26 rfl ?_
    obtain ⟨b6, e7, h⟩ := h
    refine zs_stk1 (zs_rfe e7) ?_
    obtain ⟨k8, h⟩ := h
    refine zu_iald (k := 0) d_8122_27 rfl rfl k8 ?_
    refine zu_stk d_8122_28 rfl rfl ?_
    exact (u_X9_capacity_29 hB h).weak ⟨rfl, rfl, trivial⟩
  · have h := h.2 c5
    refine zu_aload_n d_8122_9 rfl (zs_ra _) ?_
    refine zu_aload_n d_8122_10 rfl (zs_ra _) ?_
    refine zg_8_99 rfl d_8122_11 k1 ?_
    refine zu_iload_n d_8122_14 rfl ?_
    obtain ⟨b9, e10, h⟩ := h
    refine zs_stk1 (zs_rfe e10) ?_
    obtain ⟨k11, h⟩ := h
    refine zu_iald (k := 0) d_8122_15 rfl rfl k11 ?_
    refine zc_8_780 (x0 := (zs_i S b9 p1.toNatClampNeg)) hB rfl k1 d_8122_16 (Nat.le_of_ble_eq_true rfl) h (fun v13 S12 h => ?_)
    refine zu_goto (t := 29) d_8122_19 rfl ?_
    exact (u_X9_capacity_29 hB h).weak ⟨rfl, rfl, trivial⟩
/-! SchemaPascalModel.ends(I)Z -/
theorem zm_8123 {σ : Nat → Nat} {n0 : Nat} {bf : ab_B} : ab_code (zx σ n0 bf).1 8123 = prog_17_method_97_code := rfl
theorem zq_8123 {σ : Nat → Nat} {n0 : Nat} {bf : ab_B} : ab_maxL (zx σ n0 bf).1 8123 = 3 := rfl
theorem zr_8123 {σ : Nat → Nat} {n0 : Nat} {bf : ab_B} : ab_ret (zx σ n0 bf).1 8123 = (Option.some Jvm.ClassFile.FieldType.boolean) := rfl
theorem d_8123_0 {σ : Nat → Nat} {n0 : Nat} {bf : ab_B} : decode (ab_code (zx σ n0 bf).1 8123) 0 = .ok (.aload_n 0, 1) := zd zm_8123 (by decide +kernel)
theorem d_8123_1 {σ : Nat → Nat} {n0 : Nat} {bf : ab_B} : decode (ab_code (zx σ n0 bf).1 8123) 1 = .ok (.getfield 90, 3) := zd zm_8123 (by decide +kernel)
theorem d_8123_4 {σ : Nat → Nat} {n0 : Nat} {bf : ab_B} : decode (ab_code (zx σ n0 bf).1 8123) 4 = .ok (.iload_n 1, 1) := zd zm_8123 (by decide +kernel)
theorem d_8123_5 {σ : Nat → Nat} {n0 : Nat} {bf : ab_B} : decode (ab_code (zx σ n0 bf).1 8123) 5 = .ok (.baload, 1) := zd zm_8123 (by decide +kernel)
theorem d_8123_6 {σ : Nat → Nat} {n0 : Nat} {bf : ab_B} : decode (ab_code (zx σ n0 bf).1 8123) 6 = .ok (.iconst 5, 1) := zd zm_8123 (by decide +kernel)
theorem d_8123_7 {σ : Nat → Nat} {n0 : Nat} {bf : ab_B} : decode (ab_code (zx σ n0 bf).1 8123) 7 = .ok (.if_icmp .ne 82, 3) := zd zm_8123 (by decide +kernel)
theorem d_8123_10 {σ : Nat → Nat} {n0 : Nat} {bf : ab_B} : decode (ab_code (zx σ n0 bf).1 8123) 10 = .ok (.aload_n 0, 1) := zd zm_8123 (by decide +kernel)
theorem d_8123_11 {σ : Nat → Nat} {n0 : Nat} {bf : ab_B} : decode (ab_code (zx σ n0 bf).1 8123) 11 = .ok (.getfield 105, 3) := zd zm_8123 (by decide +kernel)
theorem d_8123_14 {σ : Nat → Nat} {n0 : Nat} {bf : ab_B} : decode (ab_code (zx σ n0 bf).1 8123) 14 = .ok (.iload_n 1, 1) := zd zm_8123 (by decide +kernel)
theorem d_8123_15 {σ : Nat → Nat} {n0 : Nat} {bf : ab_B} : decode (ab_code (zx σ n0 bf).1 8123) 15 = .ok (.baload, 1) := zd zm_8123 (by decide +kernel)
theorem d_8123_16 {σ : Nat → Nat} {n0 : Nat} {bf : ab_B} : decode (ab_code (zx σ n0 bf).1 8123) 16 = .ok (.ifCond .eq 73, 3) := zd zm_8123 (by decide +kernel)
theorem d_8123_19 {σ : Nat → Nat} {n0 : Nat} {bf : ab_B} : decode (ab_code (zx σ n0 bf).1 8123) 19 = .ok (.aload_n 0, 1) := zd zm_8123 (by decide +kernel)
theorem d_8123_20 {σ : Nat → Nat} {n0 : Nat} {bf : ab_B} : decode (ab_code (zx σ n0 bf).1 8123) 20 = .ok (.aload_n 0, 1) := zd zm_8123 (by decide +kernel)
theorem d_8123_21 {σ : Nat → Nat} {n0 : Nat} {bf : ab_B} : decode (ab_code (zx σ n0 bf).1 8123) 21 = .ok (.aload_n 0, 1) := zd zm_8123 (by decide +kernel)
theorem d_8123_22 {σ : Nat → Nat} {n0 : Nat} {bf : ab_B} : decode (ab_code (zx σ n0 bf).1 8123) 22 = .ok (.getfield 99, 3) := zd zm_8123 (by decide +kernel)
theorem d_8123_25 {σ : Nat → Nat} {n0 : Nat} {bf : ab_B} : decode (ab_code (zx σ n0 bf).1 8123) 25 = .ok (.iload_n 1, 1) := zd zm_8123 (by decide +kernel)
theorem d_8123_26 {σ : Nat → Nat} {n0 : Nat} {bf : ab_B} : decode (ab_code (zx σ n0 bf).1 8123) 26 = .ok (.iaload, 1) := zd zm_8123 (by decide +kernel)
theorem d_8123_27 {σ : Nat → Nat} {n0 : Nat} {bf : ab_B} : decode (ab_code (zx σ n0 bf).1 8123) 27 = .ok (.invokevirtual 780, 3) := zd zm_8123 (by decide +kernel)
theorem d_8123_30 {σ : Nat → Nat} {n0 : Nat} {bf : ab_B} : decode (ab_code (zx σ n0 bf).1 8123) 30 = .ok (.putfield 783, 3) := zd zm_8123 (by decide +kernel)
theorem d_8123_33 {σ : Nat → Nat} {n0 : Nat} {bf : ab_B} : decode (ab_code (zx σ n0 bf).1 8123) 33 = .ok (.aload_n 0, 1) := zd zm_8123 (by decide +kernel)
theorem d_8123_34 {σ : Nat → Nat} {n0 : Nat} {bf : ab_B} : decode (ab_code (zx σ n0 bf).1 8123) 34 = .ok (.getfield 623, 3) := zd zm_8123 (by decide +kernel)
theorem d_8123_37 {σ : Nat → Nat} {n0 : Nat} {bf : ab_B} : decode (ab_code (zx σ n0 bf).1 8123) 37 = .ok (.istore_n 2, 1) := zd zm_8123 (by decide +kernel)
theorem d_8123_38 {σ : Nat → Nat} {n0 : Nat} {bf : ab_B} : decode (ab_code (zx σ n0 bf).1 8123) 38 = .ok (.aload_n 0, 1) := zd zm_8123 (by decide +kernel)
theorem d_8123_39 {σ : Nat → Nat} {n0 : Nat} {bf : ab_B} : decode (ab_code (zx σ n0 bf).1 8123) 39 = .ok (.iload_n 2, 1) := zd zm_8123 (by decide +kernel)
theorem d_8123_40 {σ : Nat → Nat} {n0 : Nat} {bf : ab_B} : decode (ab_code (zx σ n0 bf).1 8123) 40 = .ok (.ifCond .eq 7, 3) := zd zm_8123 (by decide +kernel)
theorem d_8123_43 {σ : Nat → Nat} {n0 : Nat} {bf : ab_B} : decode (ab_code (zx σ n0 bf).1 8123) 43 = .ok (.lconst 0, 1) := zd zm_8123 (by decide +kernel)
theorem d_8123_44 {σ : Nat → Nat} {n0 : Nat} {bf : ab_B} : decode (ab_code (zx σ n0 bf).1 8123) 44 = .ok (.goto 13, 3) := zd zm_8123 (by decide +kernel)
theorem d_8123_47 {σ : Nat → Nat} {n0 : Nat} {bf : ab_B} : decode (ab_code (zx σ n0 bf).1 8123) 47 = .ok (.aload_n 0, 1) := zd zm_8123 (by decide +kernel)
theorem d_8123_48 {σ : Nat → Nat} {n0 : Nat} {bf : ab_B} : decode (ab_code (zx σ n0 bf).1 8123) 48 = .ok (.aload_n 0, 1) := zd zm_8123 (by decide +kernel)
theorem d_8123_49 {σ : Nat → Nat} {n0 : Nat} {bf : ab_B} : decode (ab_code (zx σ n0 bf).1 8123) 49 = .ok (.getfield 102, 3) := zd zm_8123 (by decide +kernel)
theorem d_8123_52 {σ : Nat → Nat} {n0 : Nat} {bf : ab_B} : decode (ab_code (zx σ n0 bf).1 8123) 52 = .ok (.iload_n 1, 1) := zd zm_8123 (by decide +kernel)
theorem d_8123_53 {σ : Nat → Nat} {n0 : Nat} {bf : ab_B} : decode (ab_code (zx σ n0 bf).1 8123) 53 = .ok (.iaload, 1) := zd zm_8123 (by decide +kernel)
theorem d_8123_54 {σ : Nat → Nat} {n0 : Nat} {bf : ab_B} : decode (ab_code (zx σ n0 bf).1 8123) 54 = .ok (.invokevirtual 780, 3) := zd zm_8123 (by decide +kernel)
theorem d_8123_57 {σ : Nat → Nat} {n0 : Nat} {bf : ab_B} : decode (ab_code (zx σ n0 bf).1 8123) 57 = .ok (.putfield 786, 3) := zd zm_8123 (by decide +kernel)
theorem d_8123_60 {σ : Nat → Nat} {n0 : Nat} {bf : ab_B} : decode (ab_code (zx σ n0 bf).1 8123) 60 = .ok (.iload_n 2, 1) := zd zm_8123 (by decide +kernel)
theorem d_8123_61 {σ : Nat → Nat} {n0 : Nat} {bf : ab_B} : decode (ab_code (zx σ n0 bf).1 8123) 61 = .ok (.ifCond .ne 26, 3) := zd zm_8123 (by decide +kernel)
theorem d_8123_64 {σ : Nat → Nat} {n0 : Nat} {bf : ab_B} : decode (ab_code (zx σ n0 bf).1 8123) 64 = .ok (.aload_n 0, 1) := zd zm_8123 (by decide +kernel)
theorem d_8123_65 {σ : Nat → Nat} {n0 : Nat} {bf : ab_B} : decode (ab_code (zx σ n0 bf).1 8123) 65 = .ok (.getfield 623, 3) := zd zm_8123 (by decide +kernel)
theorem d_8123_68 {σ : Nat → Nat} {n0 : Nat} {bf : ab_B} : decode (ab_code (zx σ n0 bf).1 8123) 68 = .ok (.ifCond .ne 19, 3) := zd zm_8123 (by decide +kernel)
theorem d_8123_71 {σ : Nat → Nat} {n0 : Nat} {bf : ab_B} : decode (ab_code (zx σ n0 bf).1 8123) 71 = .ok (.aload_n 0, 1) := zd zm_8123 (by decide +kernel)
theorem d_8123_72 {σ : Nat → Nat} {n0 : Nat} {bf : ab_B} : decode (ab_code (zx σ n0 bf).1 8123) 72 = .ok (.getfield 783, 3) := zd zm_8123 (by decide +kernel)
theorem d_8123_75 {σ : Nat → Nat} {n0 : Nat} {bf : ab_B} : decode (ab_code (zx σ n0 bf).1 8123) 75 = .ok (.aload_n 0, 1) := zd zm_8123 (by decide +kernel)
theorem d_8123_76 {σ : Nat → Nat} {n0 : Nat} {bf : ab_B} : decode (ab_code (zx σ n0 bf).1 8123) 76 = .ok (.getfield 786, 3) := zd zm_8123 (by decide +kernel)
theorem d_8123_79 {σ : Nat → Nat} {n0 : Nat} {bf : ab_B} : decode (ab_code (zx σ n0 bf).1 8123) 79 = .ok (.lcmp, 1) := zd zm_8123 (by decide +kernel)
theorem d_8123_80 {σ : Nat → Nat} {n0 : Nat} {bf : ab_B} : decode (ab_code (zx σ n0 bf).1 8123) 80 = .ok (.ifCond .gt 7, 3) := zd zm_8123 (by decide +kernel)
theorem d_8123_83 {σ : Nat → Nat} {n0 : Nat} {bf : ab_B} : decode (ab_code (zx σ n0 bf).1 8123) 83 = .ok (.iconst 1, 1) := zd zm_8123 (by decide +kernel)
theorem d_8123_84 {σ : Nat → Nat} {n0 : Nat} {bf : ab_B} : decode (ab_code (zx σ n0 bf).1 8123) 84 = .ok (.goto 4, 3) := zd zm_8123 (by decide +kernel)
theorem d_8123_87 {σ : Nat → Nat} {n0 : Nat} {bf : ab_B} : decode (ab_code (zx σ n0 bf).1 8123) 87 = .ok (.iconst 0, 1) := zd zm_8123 (by decide +kernel)
theorem d_8123_88 {σ : Nat → Nat} {n0 : Nat} {bf : ab_B} : decode (ab_code (zx σ n0 bf).1 8123) 88 = .ok (.ireturn, 1) := zd zm_8123 (by decide +kernel)
theorem d_8123_89 {σ : Nat → Nat} {n0 : Nat} {bf : ab_B} : decode (ab_code (zx σ n0 bf).1 8123) 89 = .ok (.aload_n 0, 1) := zd zm_8123 (by decide +kernel)
theorem d_8123_90 {σ : Nat → Nat} {n0 : Nat} {bf : ab_B} : decode (ab_code (zx σ n0 bf).1 8123) 90 = .ok (.aload_n 0, 1) := zd zm_8123 (by decide +kernel)
theorem d_8123_91 {σ : Nat → Nat} {n0 : Nat} {bf : ab_B} : decode (ab_code (zx σ n0 bf).1 8123) 91 = .ok (.iload_n 1, 1) := zd zm_8123 (by decide +kernel)
theorem d_8123_92 {σ : Nat → Nat} {n0 : Nat} {bf : ab_B} : decode (ab_code (zx σ n0 bf).1 8123) 92 = .ok (.invokevirtual 789, 3) := zd zm_8123 (by decide +kernel)
theorem d_8123_95 {σ : Nat → Nat} {n0 : Nat} {bf : ab_B} : decode (ab_code (zx σ n0 bf).1 8123) 95 = .ok (.i2l, 1) := zd zm_8123 (by decide +kernel)
theorem d_8123_96 {σ : Nat → Nat} {n0 : Nat} {bf : ab_B} : decode (ab_code (zx σ n0 bf).1 8123) 96 = .ok (.putfield 783, 3) := zd zm_8123 (by decide +kernel)
theorem d_8123_99 {σ : Nat → Nat} {n0 : Nat} {bf : ab_B} : decode (ab_code (zx σ n0 bf).1 8123) 99 = .ok (.aload_n 0, 1) := zd zm_8123 (by decide +kernel)
theorem d_8123_100 {σ : Nat → Nat} {n0 : Nat} {bf : ab_B} : decode (ab_code (zx σ n0 bf).1 8123) 100 = .ok (.aload_n 0, 1) := zd zm_8123 (by decide +kernel)
theorem d_8123_101 {σ : Nat → Nat} {n0 : Nat} {bf : ab_B} : decode (ab_code (zx σ n0 bf).1 8123) 101 = .ok (.iload_n 1, 1) := zd zm_8123 (by decide +kernel)
theorem d_8123_102 {σ : Nat → Nat} {n0 : Nat} {bf : ab_B} : decode (ab_code (zx σ n0 bf).1 8123) 102 = .ok (.invokevirtual 774, 3) := zd zm_8123 (by decide +kernel)
theorem d_8123_105 {σ : Nat → Nat} {n0 : Nat} {bf : ab_B} : decode (ab_code (zx σ n0 bf).1 8123) 105 = .ok (.i2l, 1) := zd zm_8123 (by decide +kernel)
theorem d_8123_106 {σ : Nat → Nat} {n0 : Nat} {bf : ab_B} : decode (ab_code (zx σ n0 bf).1 8123) 106 = .ok (.putfield 786, 3) := zd zm_8123 (by decide +kernel)
theorem d_8123_109 {σ : Nat → Nat} {n0 : Nat} {bf : ab_B} : decode (ab_code (zx σ n0 bf).1 8123) 109 = .ok (.iconst 1, 1) := zd zm_8123 (by decide +kernel)
theorem d_8123_110 {σ : Nat → Nat} {n0 : Nat} {bf : ab_B} : decode (ab_code (zx σ n0 bf).1 8123) 110 = .ok (.ireturn, 1) := zd zm_8123 (by decide +kernel)
def w_X9_ends_57 (X : zs_X) (d : Nat) (p0 : Nat) (p2 : Int32) (q0 : Option Nat) (q1 : Int64) (S : zs_T) (Q : zs_Q) : Prop :=
  (∃ b1, q0 = some b1 ∧ zs_K S b1 = some (.inl 8) ∧ ab_n0 X.1 ≤ b1 ∧ ∀ S5, S5 = zs_sJ S 8126 b1 q1 → ((¬ p2 = 0 → (Q (.returned (some (.int (0 : Int32)))) S5)) ∧ (¬ (¬ p2 = 0) → (zs_K S p0 = some (.inl 8) ∧ ((¬ (zs_I S5 8080 p0) = 0 → (Q (.returned (some (.int (0 : Int32)))) S5)) ∧ (¬ (¬ (zs_I S5 8080 p0) = 0) → ((((zs_J S5 8126 p0) < (zs_J S5 8125 p0) → (Q (.returned (some (.int (0 : Int32)))) S5)) ∧ (¬ ((zs_J S5 8126 p0) < (zs_J S5 8125 p0)) → (Q (.returned (some (.int (1 : Int32)))) S5))))))))))
theorem u_X9_ends_57 {σ : Nat → Nat} {n0 : Nat} {bf : ab_B} {d : Nat} {p0 : Nat} {p2 : Int32} {q0 : Option Nat} {q1 : Int64} {S : zs_T} {Q : zs_Q} (hB : zt_B bf) (h : w_X9_ends_57 (zx σ n0 bf) d p0 p2 q0 q1 S Q) : zs_U (zx σ n0 bf) d 8123 57 [(0, .ref p0), (2, .int p2)] [.long q1, va_rf q0] S Q := by
  unfold w_X9_ends_57 at h
  obtain ⟨b1, e2, h⟩ := h
  refine zs_stk1 (zs_rfe e2) ?_
  obtain ⟨k3, h⟩ := h
  obtain ⟨k4, h⟩ := h
  refine zp_8_786 (v := q1) rfl d_8123_57 k3 k4 ?_
  generalize e6 : zs_sJ S 8126 b1 q1 = S5
  have h := h S5 e6.symm
  have K7 : ∀ b, zs_K S5 b = zs_K S b := zs_Kt e6 (zs_KsJ _ _ _ _) (fun _ => rfl)
  refine zu_iload_n d_8123_60 rfl ?_
  refine zu_ifne (t := 87) d_8123_61 rfl (fun c8 => ?_) (fun c8 => ?_)
  · have h := h.1 c8
    refine zu_iconst d_8123_87 zi_0 ?_
    exact zu_iret d_8123_88 zr_8123 (zs_b_n (Or.inl rfl)) h
  · have h := h.2 c8
    refine zu_aload_n d_8123_64 rfl (zs_ra _) ?_
    obtain ⟨k9, h⟩ := h
    refine zg_8_623 rfl d_8123_65 ((K7 _).trans k9) ?_
    refine zu_ifne (t := 87) d_8123_68 rfl (fun c10 => ?_) (fun c10 => ?_)
    · have h := h.1 c10
      refine zu_iconst d_8123_87 zi_0 ?_
      exact zu_iret d_8123_88 zr_8123 (zs_b_n (Or.inl rfl)) h
    · have h := h.2 c10
      refine zu_aload_n d_8123_71 rfl (zs_ra _) ?_
      refine zg_8_783 rfl d_8123_72 ((K7 _).trans k9) ?_
      refine zu_aload_n d_8123_75 rfl (zs_ra _) ?_
      refine zg_8_786 rfl d_8123_76 ((K7 _).trans k9) ?_
      refine zu_lgt (t := 87) d_8123_79 d_8123_80 rfl (fun c11 => ?_) (fun c11 => ?_)
      · have h := h.1 c11
        refine zu_iconst d_8123_87 zi_0 ?_
        exact zu_iret d_8123_88 zr_8123 (zs_b_n (Or.inl rfl)) h
      · have h := h.2 c11
        refine zu_iconst d_8123_83 zi_1 ?_
        refine zu_goto (t := 88) d_8123_84 rfl ?_
        exact zu_iret d_8123_88 zr_8123 (zs_b_n (Or.inr rfl)) h
def w_X9_ends_33 (X : zs_X) (d : Nat) (p0 : Nat) (p1 : Int32) (S : zs_T) (Q : zs_Q) : Prop :=
  (zs_K S p0 = some (.inl 8) ∧ (((zs_I S 8080 p0) = 0 → (∃ b3, (zs_R S 8048 p0) = some b3 ∧ zs_A S b3 0 p1 ∧ zs_C X d 8104 [.ref p0, .int (zs_i S b3 p1.toNatClampNeg)] S (zs_kJ (fun v7 S6 => w_X9_ends_57 X d p0 (zs_I S 8080 p0) (some p0) v7 S6 Q) Q))) ∧ (¬ ((zs_I S 8080 p0) = 0) → (w_X9_ends_57 X d p0 (zs_I S 8080 p0) (some p0) (0 : Int64) S Q))))
theorem u_X9_ends_33 {σ : Nat → Nat} {n0 : Nat} {bf : ab_B} {d : Nat} {p0 : Nat} {p1 : Int32} {S : zs_T} {Q : zs_Q} (hB : zt_B bf) (h : w_X9_ends_33 (zx σ n0 bf) d p0 p1 S Q) : zs_U (zx σ n0 bf) d 8123 33 [(0, .ref p0), (1, .int p1)] [] S Q := by
  unfold w_X9_ends_33 at h
  refine zu_aload_n d_8123_33 rfl (zs_ra _) ?_
  obtain ⟨k1, h⟩ := h
  refine zg_8_623 rfl d_8123_34 k1 ?_
  refine zu_istore_n d_8123_37 (zs_lt zq_8123 rfl) ?_
  refine zu_aload_n d_8123_38 rfl (zs_ra _) ?_
  refine zu_iload_n d_8123_39 rfl ?_
  refine zu_ifeq (t := 47) d_8123_40 rfl (fun c2 => ?_) (fun c2 => ?_)
  · have h := h.1 c2
    refine zu_aload_n d_8123_47 rfl (zs_ra _) ?_
    refine zu_aload_n d_8123_48 rfl (zs_ra _) ?_
    refine zg_8_102 rfl d_8123_49 k1 ?_
    refine zu_iload_n d_8123_52 rfl ?_
    obtain ⟨b3, e4, h⟩ := h
    refine zs_stk1 (zs_rfe e4) ?_
    obtain ⟨k5, h⟩ := h
    refine zu_iald (k := 0) d_8123_53 rfl rfl k5 ?_
    refine zc_8_780 (x0 := (zs_i S b3 p1.toNatClampNeg)) hB rfl k1 d_8123_54 (Nat.le_of_ble_eq_true rfl) h (fun v7 S6 h => ?_)
    exact (u_X9_ends_57 hB h).weak ⟨rfl, rfl, trivial⟩
  · have h := h.2 c2
    refine zu_lconst (v := 0) d_8123_43 rfl ?_
    refine zu_goto (t := 57) d_8123_44 rfl ?_
    exact (u_X9_ends_57 hB h).weak ⟨rfl, rfl, trivial⟩
def w_X9_ends_89 (X : zs_X) (d : Nat) (p0 : Nat) (p1 : Int32) (S : zs_T) (Q : zs_Q) : Prop :=
  (zs_K S p0 = some (.inl 8) ∧ zs_C X d 8111 [.ref p0, .int p1] S (zs_kI (fun v3 S2 => (zs_K S2 p0 = some (.inl 8) ∧ ab_n0 X.1 ≤ p0 ∧ ∀ S6, S6 = zs_sJ S2 8125 p0 ((v3).toInt64) → zs_C X d 8088 [.ref p0, .int p1] S6 (zs_kI (fun v10 S9 => (zs_K S9 p0 = some (.inl 8) ∧ ∀ S12, S12 = zs_sJ S9 8126 p0 ((v10).toInt64) → Q (.returned (some (.int (1 : Int32)))) S12)) Q))) Q))
theorem u_X9_ends_89 {σ : Nat → Nat} {n0 : Nat} {bf : ab_B} {d : Nat} {p0 : Nat} {p1 : Int32} {S : zs_T} {Q : zs_Q} (hB : zt_B bf) (h : w_X9_ends_89 (zx σ n0 bf) d p0 p1 S Q) : zs_U (zx σ n0 bf) d 8123 89 [(0, .ref p0), (1, .int p1)] [] S Q := by
  unfold w_X9_ends_89 at h
  refine zu_aload_n d_8123_89 rfl (zs_ra _) ?_
  refine zu_aload_n d_8123_90 rfl (zs_ra _) ?_
  refine zu_iload_n d_8123_91 rfl ?_
  obtain ⟨k1, h⟩ := h
  refine zc_8_789 (x0 := p1) hB rfl k1 d_8123_92 (Nat.le_of_ble_eq_true rfl) h (fun v3 S2 h => ?_)
  refine zu_stk d_8123_95 rfl rfl ?_
  obtain ⟨k4, h⟩ := h
  obtain ⟨k5, h⟩ := h
  refine zp_8_783 (v := ((v3).toInt64)) rfl d_8123_96 k4 k5 ?_
  generalize e7 : zs_sJ S2 8125 p0 ((v3).toInt64) = S6
  have h := h S6 e7.symm
  have K8 : ∀ b, zs_K S6 b = zs_K S2 b := zs_Kt e7 (zs_KsJ _ _ _ _) (fun _ => rfl)
  refine zu_aload_n d_8123_99 rfl (zs_ra _) ?_
  refine zu_aload_n d_8123_100 rfl (zs_ra _) ?_
  refine zu_iload_n d_8123_101 rfl ?_
  refine zc_8_774 (x0 := p1) hB rfl ((K8 _).trans k4) d_8123_102 (Nat.le_of_ble_eq_true rfl) h (fun v10 S9 h => ?_)
  refine zu_stk d_8123_105 rfl rfl ?_
  obtain ⟨k11, h⟩ := h
  refine zp_8_786 (v := ((v10).toInt64)) rfl d_8123_106 k11 k5 ?_
  generalize e13 : zs_sJ S9 8126 p0 ((v10).toInt64) = S12
  have h := h S12 e13.symm
  have K14 : ∀ b, zs_K S12 b = zs_K S9 b := zs_Kt e13 (zs_KsJ _ _ _ _) (fun _ => rfl)
  refine zu_iconst d_8123_109 zi_1 ?_
  exact zu_iret d_8123_110 zr_8123 (zs_b_n (Or.inr rfl)) h
def w_X9_ends (X : zs_X) (d : Nat) (p0 : Nat) (p1 : Int32) (S : zs_T) (Q : zs_Q) : Prop :=
  (zs_K S p0 = some (.inl 8) ∧ ∃ b2, (zs_R S 8044 p0) = some b2 ∧ zs_A S b2 1 p1 ∧ ((¬ (zs_i S b2 p1.toNatClampNeg) = (5 : Int32) → w_X9_ends_89 X d p0 p1 S Q) ∧ (¬ (¬ (zs_i S b2 p1.toNatClampNeg) = (5 : Int32)) → (∃ b6, (zs_R S 8049 p0) = some b6 ∧ zs_A S b6 2 p1 ∧ (((zs_i S b6 p1.toNatClampNeg) = 0 → w_X9_ends_89 X d p0 p1 S Q) ∧ (¬ ((zs_i S b6 p1.toNatClampNeg) = 0) → (∃ b10, (zs_R S 8047 p0) = some b10 ∧ zs_A S b10 0 p1 ∧ zs_C X d 8104 [.ref p0, .int (zs_i S b10 p1.toNatClampNeg)] S (zs_kJ (fun v14 S13 => (zs_K S13 p0 = some (.inl 8) ∧ ab_n0 X.1 ≤ p0 ∧ ∀ S17, S17 = zs_sJ S13 8125 p0 v14 → w_X9_ends_33 X d p0 p1 S17 Q)) Q))))))))
theorem u_X9_ends {σ : Nat → Nat} {n0 : Nat} {bf : ab_B} {d : Nat} {p0 : Nat} {p1 : Int32} {S : zs_T} {Q : zs_Q} (hB : zt_B bf) (hd : 1 ≤ d) (h : w_X9_ends (zx σ n0 bf) (d - 1) p0 p1 S Q) : zs_C (zx σ n0 bf) d 8123 [.ref p0, .int p1] S Q := by
  have hL : lv_args 0 [.ref p0, .int p1] = [(0, .ref p0), (1, .int p1)] := rfl
  refine zs_C.of1 (hB.2 8123 (by decide) (by decide)) hd (by rw [hL]; exact zs_sub_self _ (by exact ⟨rfl, rfl, trivial⟩)) ?_
  rw [hL]
  clear hL
  unfold w_X9_ends at h
  refine zu_aload_n d_8123_0 rfl (zs_ra _) ?_
  obtain ⟨k1, h⟩ := h
  refine zg_8_90 rfl d_8123_1 k1 ?_
  refine zu_iload_n d_8123_4 rfl ?_
  obtain ⟨b2, e3, h⟩ := h
  refine zs_stk1 (zs_rfe e3) ?_
  obtain ⟨k4, h⟩ := h
  refine zu_bald (k := 1) d_8123_5 rfl (Or.inl rfl) k4 ?_
  refine zu_iconst d_8123_6 zi_5 ?_
  refine zu_cmpne (t := 89) d_8123_7 rfl (fun c5 => ?_) (fun c5 => ?_)
  · have h := h.1 c5
    exact (u_X9_ends_89 hB h).weak ⟨rfl, rfl, trivial⟩
  · have h := h.2 c5
    refine zu_aload_n d_8123_10 rfl (zs_ra _) ?_
    refine zg_8_105 rfl d_8123_11 k1 ?_
    refine zu_iload_n d_8123_14 rfl ?_
    obtain ⟨b6, e7, h⟩ := h
    refine zs_stk1 (zs_rfe e7) ?_
    obtain ⟨k8, h⟩ := h
    refine zu_bald (k := 2) d_8123_15 rfl (Or.inr rfl) k8 ?_
    refine zu_ifeq (t := 89) d_8123_16 rfl (fun c9 => ?_) (fun c9 => ?_)
    · have h := h.1 c9
      exact (u_X9_ends_89 hB h).weak ⟨rfl, rfl, trivial⟩
    · have h := h.2 c9
      refine zu_aload_n d_8123_19 rfl (zs_ra _) ?_
      refine zu_aload_n d_8123_20 rfl (zs_ra _) ?_
      refine zu_aload_n d_8123_21 rfl (zs_ra _) ?_
      refine zg_8_99 rfl d_8123_22 k1 ?_
      refine zu_iload_n d_8123_25 rfl ?_
      obtain ⟨b10, e11, h⟩ := h
      refine zs_stk1 (zs_rfe e11) ?_
      obtain ⟨k12, h⟩ := h
      refine zu_iald (k := 0) d_8123_26 rfl rfl k12 ?_
      refine zc_8_780 (x0 := (zs_i S b10 p1.toNatClampNeg)) hB rfl k1 d_8123_27 (Nat.le_of_ble_eq_true rfl) h (fun v14 S13 h => ?_)
      obtain ⟨k15, h⟩ := h
      obtain ⟨k16, h⟩ := h
      refine zp_8_783 (v := v14) rfl d_8123_30 k15 k16 ?_
      generalize e18 : zs_sJ S13 8125 p0 v14 = S17
      have h := h S17 e18.symm
      have K19 : ∀ b, zs_K S17 b = zs_K S13 b := zs_Kt e18 (zs_KsJ _ _ _ _) (fun _ => rfl)
      exact (u_X9_ends_33 hB h).weak ⟨rfl, rfl, trivial⟩
/-! SchemaPascalModel.arrayCells(II)I -/
theorem zm_8124 {σ : Nat → Nat} {n0 : Nat} {bf : ab_B} : ab_code (zx σ n0 bf).1 8124 = prog_17_method_102_code := rfl
theorem zq_8124 {σ : Nat → Nat} {n0 : Nat} {bf : ab_B} : ab_maxL (zx σ n0 bf).1 8124 = 6 := rfl
theorem zr_8124 {σ : Nat → Nat} {n0 : Nat} {bf : ab_B} : ab_ret (zx σ n0 bf).1 8124 = (Option.some Jvm.ClassFile.FieldType.int) := rfl
theorem d_8124_0 {σ : Nat → Nat} {n0 : Nat} {bf : ab_B} : decode (ab_code (zx σ n0 bf).1 8124) 0 = .ok (.aload_n 0, 1) := zd zm_8124 (by decide +kernel)
theorem d_8124_1 {σ : Nat → Nat} {n0 : Nat} {bf : ab_B} : decode (ab_code (zx σ n0 bf).1 8124) 1 = .ok (.aload_n 0, 1) := zd zm_8124 (by decide +kernel)
theorem d_8124_2 {σ : Nat → Nat} {n0 : Nat} {bf : ab_B} : decode (ab_code (zx σ n0 bf).1 8124) 2 = .ok (.getfield 96, 3) := zd zm_8124 (by decide +kernel)
theorem d_8124_5 {σ : Nat → Nat} {n0 : Nat} {bf : ab_B} : decode (ab_code (zx σ n0 bf).1 8124) 5 = .ok (.iload_n 1, 1) := zd zm_8124 (by decide +kernel)
theorem d_8124_6 {σ : Nat → Nat} {n0 : Nat} {bf : ab_B} : decode (ab_code (zx σ n0 bf).1 8124) 6 = .ok (.iaload, 1) := zd zm_8124 (by decide +kernel)
theorem d_8124_7 {σ : Nat → Nat} {n0 : Nat} {bf : ab_B} : decode (ab_code (zx σ n0 bf).1 8124) 7 = .ok (.invokevirtual 792, 3) := zd zm_8124 (by decide +kernel)
theorem d_8124_10 {σ : Nat → Nat} {n0 : Nat} {bf : ab_B} : decode (ab_code (zx σ n0 bf).1 8124) 10 = .ok (.istore_n 3, 1) := zd zm_8124 (by decide +kernel)
theorem d_8124_11 {σ : Nat → Nat} {n0 : Nat} {bf : ab_B} : decode (ab_code (zx σ n0 bf).1 8124) 11 = .ok (.aload_n 0, 1) := zd zm_8124 (by decide +kernel)
theorem d_8124_12 {σ : Nat → Nat} {n0 : Nat} {bf : ab_B} : decode (ab_code (zx σ n0 bf).1 8124) 12 = .ok (.getfield 786, 3) := zd zm_8124 (by decide +kernel)
theorem d_8124_15 {σ : Nat → Nat} {n0 : Nat} {bf : ab_B} : decode (ab_code (zx σ n0 bf).1 8124) 15 = .ok (.aload_n 0, 1) := zd zm_8124 (by decide +kernel)
theorem d_8124_16 {σ : Nat → Nat} {n0 : Nat} {bf : ab_B} : decode (ab_code (zx σ n0 bf).1 8124) 16 = .ok (.getfield 783, 3) := zd zm_8124 (by decide +kernel)
theorem d_8124_19 {σ : Nat → Nat} {n0 : Nat} {bf : ab_B} : decode (ab_code (zx σ n0 bf).1 8124) 19 = .ok (.lsub, 1) := zd zm_8124 (by decide +kernel)
theorem d_8124_20 {σ : Nat → Nat} {n0 : Nat} {bf : ab_B} : decode (ab_code (zx σ n0 bf).1 8124) 20 = .ok (.lconst 1, 1) := zd zm_8124 (by decide +kernel)
theorem d_8124_21 {σ : Nat → Nat} {n0 : Nat} {bf : ab_B} : decode (ab_code (zx σ n0 bf).1 8124) 21 = .ok (.ladd, 1) := zd zm_8124 (by decide +kernel)
theorem d_8124_22 {σ : Nat → Nat} {n0 : Nat} {bf : ab_B} : decode (ab_code (zx σ n0 bf).1 8124) 22 = .ok (.lstore 4, 2) := zd zm_8124 (by decide +kernel)
theorem d_8124_24 {σ : Nat → Nat} {n0 : Nat} {bf : ab_B} : decode (ab_code (zx σ n0 bf).1 8124) 24 = .ok (.iload_n 3, 1) := zd zm_8124 (by decide +kernel)
theorem d_8124_25 {σ : Nat → Nat} {n0 : Nat} {bf : ab_B} : decode (ab_code (zx σ n0 bf).1 8124) 25 = .ok (.ifCond .eq 24, 3) := zd zm_8124 (by decide +kernel)
theorem d_8124_28 {σ : Nat → Nat} {n0 : Nat} {bf : ab_B} : decode (ab_code (zx σ n0 bf).1 8124) 28 = .ok (.lload 4, 2) := zd zm_8124 (by decide +kernel)
theorem d_8124_30 {σ : Nat → Nat} {n0 : Nat} {bf : ab_B} : decode (ab_code (zx σ n0 bf).1 8124) 30 = .ok (.ldc2_w 808, 3) := zd zm_8124 (by decide +kernel)
theorem d_8124_33 {σ : Nat → Nat} {n0 : Nat} {bf : ab_B} : decode (ab_code (zx σ n0 bf).1 8124) 33 = .ok (.lcmp, 1) := zd zm_8124 (by decide +kernel)
theorem d_8124_34 {σ : Nat → Nat} {n0 : Nat} {bf : ab_B} : decode (ab_code (zx σ n0 bf).1 8124) 34 = .ok (.ifCond .gt 15, 3) := zd zm_8124 (by decide +kernel)
theorem d_8124_37 {σ : Nat → Nat} {n0 : Nat} {bf : ab_B} : decode (ab_code (zx σ n0 bf).1 8124) 37 = .ok (.lload 4, 2) := zd zm_8124 (by decide +kernel)
theorem d_8124_39 {σ : Nat → Nat} {n0 : Nat} {bf : ab_B} : decode (ab_code (zx σ n0 bf).1 8124) 39 = .ok (.iload_n 2, 1) := zd zm_8124 (by decide +kernel)
theorem d_8124_40 {σ : Nat → Nat} {n0 : Nat} {bf : ab_B} : decode (ab_code (zx σ n0 bf).1 8124) 40 = .ok (.i2l, 1) := zd zm_8124 (by decide +kernel)
theorem d_8124_41 {σ : Nat → Nat} {n0 : Nat} {bf : ab_B} : decode (ab_code (zx σ n0 bf).1 8124) 41 = .ok (.lmul, 1) := zd zm_8124 (by decide +kernel)
theorem d_8124_42 {σ : Nat → Nat} {n0 : Nat} {bf : ab_B} : decode (ab_code (zx σ n0 bf).1 8124) 42 = .ok (.ldc2_w 808, 3) := zd zm_8124 (by decide +kernel)
theorem d_8124_45 {σ : Nat → Nat} {n0 : Nat} {bf : ab_B} : decode (ab_code (zx σ n0 bf).1 8124) 45 = .ok (.lcmp, 1) := zd zm_8124 (by decide +kernel)
theorem d_8124_46 {σ : Nat → Nat} {n0 : Nat} {bf : ab_B} : decode (ab_code (zx σ n0 bf).1 8124) 46 = .ok (.ifCond .le 8, 3) := zd zm_8124 (by decide +kernel)
theorem d_8124_49 {σ : Nat → Nat} {n0 : Nat} {bf : ab_B} : decode (ab_code (zx σ n0 bf).1 8124) 49 = .ok (.bipush (-2), 2) := zd zm_8124 (by decide +kernel)
theorem d_8124_51 {σ : Nat → Nat} {n0 : Nat} {bf : ab_B} : decode (ab_code (zx σ n0 bf).1 8124) 51 = .ok (.goto 8, 3) := zd zm_8124 (by decide +kernel)
theorem d_8124_54 {σ : Nat → Nat} {n0 : Nat} {bf : ab_B} : decode (ab_code (zx σ n0 bf).1 8124) 54 = .ok (.lload 4, 2) := zd zm_8124 (by decide +kernel)
theorem d_8124_56 {σ : Nat → Nat} {n0 : Nat} {bf : ab_B} : decode (ab_code (zx σ n0 bf).1 8124) 56 = .ok (.l2i, 1) := zd zm_8124 (by decide +kernel)
theorem d_8124_57 {σ : Nat → Nat} {n0 : Nat} {bf : ab_B} : decode (ab_code (zx σ n0 bf).1 8124) 57 = .ok (.iload_n 2, 1) := zd zm_8124 (by decide +kernel)
theorem d_8124_58 {σ : Nat → Nat} {n0 : Nat} {bf : ab_B} : decode (ab_code (zx σ n0 bf).1 8124) 58 = .ok (.imul, 1) := zd zm_8124 (by decide +kernel)
theorem d_8124_59 {σ : Nat → Nat} {n0 : Nat} {bf : ab_B} : decode (ab_code (zx σ n0 bf).1 8124) 59 = .ok (.ireturn, 1) := zd zm_8124 (by decide +kernel)
def w_X9_arrayCells_49 (X : zs_X) (d : Nat)  (S : zs_T) (Q : zs_Q) : Prop :=
  (Q (.returned (some (.int (-2 : Int32)))) S)
theorem u_X9_arrayCells_49 {σ : Nat → Nat} {n0 : Nat} {bf : ab_B} {d : Nat}  {S : zs_T} {Q : zs_Q} (hB : zt_B bf) (h : w_X9_arrayCells_49 (zx σ n0 bf) d  S Q) : zs_U (zx σ n0 bf) d 8124 49 [] [] S Q := by
  unfold w_X9_arrayCells_49 at h
  refine zu_bipush d_8124_49 zj_m2 ?_
  refine zu_goto (t := 59) d_8124_51 rfl ?_
  exact zu_iret d_8124_59 zr_8124 rfl h
def w_X9_arrayCells_28 (X : zs_X) (d : Nat) (p2 : Int32) (p4 : Int64) (S : zs_T) (Q : zs_Q) : Prop :=
  ((((4000 : Int64) < p4 → w_X9_arrayCells_49 X d  S Q) ∧ (¬ ((4000 : Int64) < p4) → ((((p4 * ((p2).toInt64)) ≤ (4000 : Int64) → (Q (.returned (some (.int (((p4).toInt32) * p2)))) S)) ∧ (¬ ((p4 * ((p2).toInt64)) ≤ (4000 : Int64)) → w_X9_arrayCells_49 X d  S Q))))))
theorem u_X9_arrayCells_28 {σ : Nat → Nat} {n0 : Nat} {bf : ab_B} {d : Nat} {p2 : Int32} {p4 : Int64} {S : zs_T} {Q : zs_Q} (hB : zt_B bf) (h : w_X9_arrayCells_28 (zx σ n0 bf) d p2 p4 S Q) : zs_U (zx σ n0 bf) d 8124 28 [(2, .int p2), (4, .long p4)] [] S Q := by
  unfold w_X9_arrayCells_28 at h
  refine zu_lload d_8124_28 rfl ?_
  refine zl2_8_808 rfl d_8124_30 ?_
  refine zu_lgt (t := 49) d_8124_33 d_8124_34 rfl (fun c1 => ?_) (fun c1 => ?_)
  · have h := h.1 c1
    exact (u_X9_arrayCells_49 hB h).weak trivial
  · have h := h.2 c1
    refine zu_lload d_8124_37 rfl ?_
    refine zu_iload_n d_8124_39 rfl ?_
    refine zu_stk d_8124_40 rfl rfl ?_
    refine zu_stk d_8124_41 rfl rfl ?_
    refine zl2_8_808 rfl d_8124_42 ?_
    refine zu_lle (t := 54) d_8124_45 d_8124_46 rfl (fun c2 => ?_) (fun c2 => ?_)
    · have h := h.1 c2
      refine zu_lload d_8124_54 rfl ?_
      refine zu_stk d_8124_56 rfl rfl ?_
      refine zu_iload_n d_8124_57 rfl ?_
      refine zu_stk d_8124_58 rfl rfl ?_
      exact zu_iret d_8124_59 zr_8124 rfl h
    · have h := h.2 c2
      exact (u_X9_arrayCells_49 hB h).weak trivial
def w_X9_arrayCells (X : zs_X) (d : Nat) (p0 : Nat) (p1 : Int32) (p2 : Int32) (S : zs_T) (Q : zs_Q) : Prop :=
  (zs_K S p0 = some (.inl 8) ∧ ∃ b2, (zs_R S 8046 p0) = some b2 ∧ zs_A S b2 0 p1 ∧ zs_C X d 8123 [.ref p0, .int (zs_i S b2 p1.toNatClampNeg)] S (zs_kI (fun v6 S5 => (zs_K S5 p0 = some (.inl 8) ∧ ((v6 = 0 → w_X9_arrayCells_49 X d  S5 Q) ∧ (¬ (v6 = 0) → w_X9_arrayCells_28 X d p2 (((zs_J S5 8126 p0) - (zs_J S5 8125 p0)) + (1 : Int64)) S5 Q)))) Q))
theorem u_X9_arrayCells {σ : Nat → Nat} {n0 : Nat} {bf : ab_B} {d : Nat} {p0 : Nat} {p1 : Int32} {p2 : Int32} {S : zs_T} {Q : zs_Q} (hB : zt_B bf) (hd : 1 ≤ d) (h : w_X9_arrayCells (zx σ n0 bf) (d - 1) p0 p1 p2 S Q) : zs_C (zx σ n0 bf) d 8124 [.ref p0, .int p1, .int p2] S Q := by
  have hL : lv_args 0 [.ref p0, .int p1, .int p2] = [(0, .ref p0), (1, .int p1), (2, .int p2)] := rfl
  refine zs_C.of1 (hB.2 8124 (by decide) (by decide)) hd (by rw [hL]; exact zs_sub_self _ (by exact ⟨rfl, rfl, rfl, trivial⟩)) ?_
  rw [hL]
  clear hL
  unfold w_X9_arrayCells at h
  refine zu_aload_n d_8124_0 rfl (zs_ra _) ?_
  refine zu_aload_n d_8124_1 rfl (zs_ra _) ?_
  obtain ⟨k1, h⟩ := h
  refine zg_8_96 rfl d_8124_2 k1 ?_
  refine zu_iload_n d_8124_5 rfl ?_
  obtain ⟨b2, e3, h⟩ := h
  refine zs_stk1 (zs_rfe e3) ?_
  obtain ⟨k4, h⟩ := h
  refine zu_iald (k := 0) d_8124_6 rfl rfl k4 ?_
  refine zc_8_792 (x0 := (zs_i S b2 p1.toNatClampNeg)) hB rfl k1 d_8124_7 (Nat.le_of_ble_eq_true rfl) h (fun v6 S5 h => ?_)
  refine zu_istore_n d_8124_10 (zs_lt zq_8124 rfl) ?_
  refine zu_aload_n d_8124_11 rfl (zs_ra _) ?_
  obtain ⟨k7, h⟩ := h
  refine zg_8_786 rfl d_8124_12 k7 ?_
  refine zu_aload_n d_8124_15 rfl (zs_ra _) ?_
  refine zg_8_783 rfl d_8124_16 k7 ?_
  refine zu_stk d_8124_19 rfl rfl ?_
  refine zu_lconst (v := 1) d_8124_20 rfl ?_
  refine zu_stk d_8124_21 rfl rfl ?_
  refine zu_lstore d_8124_22 (zs_lt zq_8124 rfl) ?_
  refine zu_iload_n d_8124_24 rfl ?_
  refine zu_ifeq (t := 49) d_8124_25 rfl (fun c8 => ?_) (fun c8 => ?_)
  · have h := h.1 c8
    exact (u_X9_arrayCells_49 hB h).weak trivial
  · have h := h.2 c8
    exact (u_X9_arrayCells_28 hB h).weak ⟨rfl, rfl, trivial⟩
/-! SchemaPascalModel.enter(I)Z -/
theorem zm_8125 {σ : Nat → Nat} {n0 : Nat} {bf : ab_B} : ab_code (zx σ n0 bf).1 8125 = prog_17_method_99_code := rfl
theorem zq_8125 {σ : Nat → Nat} {n0 : Nat} {bf : ab_B} : ab_maxL (zx σ n0 bf).1 8125 = 7 := rfl
theorem zr_8125 {σ : Nat → Nat} {n0 : Nat} {bf : ab_B} : ab_ret (zx σ n0 bf).1 8125 = (Option.some Jvm.ClassFile.FieldType.boolean) := rfl
theorem d_8125_0 {σ : Nat → Nat} {n0 : Nat} {bf : ab_B} : decode (ab_code (zx σ n0 bf).1 8125) 0 = .ok (.aload_n 0, 1) := zd zm_8125 (by decide +kernel)
theorem d_8125_1 {σ : Nat → Nat} {n0 : Nat} {bf : ab_B} : decode (ab_code (zx σ n0 bf).1 8125) 1 = .ok (.getfield 93, 3) := zd zm_8125 (by decide +kernel)
theorem d_8125_4 {σ : Nat → Nat} {n0 : Nat} {bf : ab_B} : decode (ab_code (zx σ n0 bf).1 8125) 4 = .ok (.iload_n 1, 1) := zd zm_8125 (by decide +kernel)
theorem d_8125_5 {σ : Nat → Nat} {n0 : Nat} {bf : ab_B} : decode (ab_code (zx σ n0 bf).1 8125) 5 = .ok (.iaload, 1) := zd zm_8125 (by decide +kernel)
theorem d_8125_6 {σ : Nat → Nat} {n0 : Nat} {bf : ab_B} : decode (ab_code (zx σ n0 bf).1 8125) 6 = .ok (.istore_n 2, 1) := zd zm_8125 (by decide +kernel)
theorem d_8125_7 {σ : Nat → Nat} {n0 : Nat} {bf : ab_B} : decode (ab_code (zx σ n0 bf).1 8125) 7 = .ok (.aload_n 0, 1) := zd zm_8125 (by decide +kernel)
theorem d_8125_8 {σ : Nat → Nat} {n0 : Nat} {bf : ab_B} : decode (ab_code (zx σ n0 bf).1 8125) 8 = .ok (.getfield 275, 3) := zd zm_8125 (by decide +kernel)
theorem d_8125_11 {σ : Nat → Nat} {n0 : Nat} {bf : ab_B} : decode (ab_code (zx σ n0 bf).1 8125) 11 = .ok (.astore_n 3, 1) := zd zm_8125 (by decide +kernel)
theorem d_8125_12 {σ : Nat → Nat} {n0 : Nat} {bf : ab_B} : decode (ab_code (zx σ n0 bf).1 8125) 12 = .ok (.iconst 0, 1) := zd zm_8125 (by decide +kernel)
theorem d_8125_13 {σ : Nat → Nat} {n0 : Nat} {bf : ab_B} : decode (ab_code (zx σ n0 bf).1 8125) 13 = .ok (.istore 4, 2) := zd zm_8125 (by decide +kernel)
theorem d_8125_15 {σ : Nat → Nat} {n0 : Nat} {bf : ab_B} : decode (ab_code (zx σ n0 bf).1 8125) 15 = .ok (.iload 4, 2) := zd zm_8125 (by decide +kernel)
theorem d_8125_17 {σ : Nat → Nat} {n0 : Nat} {bf : ab_B} : decode (ab_code (zx σ n0 bf).1 8125) 17 = .ok (.aload_n 0, 1) := zd zm_8125 (by decide +kernel)
theorem d_8125_18 {σ : Nat → Nat} {n0 : Nat} {bf : ab_B} : decode (ab_code (zx σ n0 bf).1 8125) 18 = .ok (.getfield 127, 3) := zd zm_8125 (by decide +kernel)
theorem d_8125_21 {σ : Nat → Nat} {n0 : Nat} {bf : ab_B} : decode (ab_code (zx σ n0 bf).1 8125) 21 = .ok (.iload_n 2, 1) := zd zm_8125 (by decide +kernel)
theorem d_8125_22 {σ : Nat → Nat} {n0 : Nat} {bf : ab_B} : decode (ab_code (zx σ n0 bf).1 8125) 22 = .ok (.baload, 1) := zd zm_8125 (by decide +kernel)
theorem d_8125_23 {σ : Nat → Nat} {n0 : Nat} {bf : ab_B} : decode (ab_code (zx σ n0 bf).1 8125) 23 = .ok (.if_icmp .ge 75, 3) := zd zm_8125 (by decide +kernel)
theorem d_8125_26 {σ : Nat → Nat} {n0 : Nat} {bf : ab_B} : decode (ab_code (zx σ n0 bf).1 8125) 26 = .ok (.aload_n 0, 1) := zd zm_8125 (by decide +kernel)
theorem d_8125_27 {σ : Nat → Nat} {n0 : Nat} {bf : ab_B} : decode (ab_code (zx σ n0 bf).1 8125) 27 = .ok (.getfield 96, 3) := zd zm_8125 (by decide +kernel)
theorem d_8125_30 {σ : Nat → Nat} {n0 : Nat} {bf : ab_B} : decode (ab_code (zx σ n0 bf).1 8125) 30 = .ok (.iload_n 1, 1) := zd zm_8125 (by decide +kernel)
theorem d_8125_31 {σ : Nat → Nat} {n0 : Nat} {bf : ab_B} : decode (ab_code (zx σ n0 bf).1 8125) 31 = .ok (.iaload, 1) := zd zm_8125 (by decide +kernel)
theorem d_8125_32 {σ : Nat → Nat} {n0 : Nat} {bf : ab_B} : decode (ab_code (zx σ n0 bf).1 8125) 32 = .ok (.iload 4, 2) := zd zm_8125 (by decide +kernel)
theorem d_8125_34 {σ : Nat → Nat} {n0 : Nat} {bf : ab_B} : decode (ab_code (zx σ n0 bf).1 8125) 34 = .ok (.iadd, 1) := zd zm_8125 (by decide +kernel)
theorem d_8125_35 {σ : Nat → Nat} {n0 : Nat} {bf : ab_B} : decode (ab_code (zx σ n0 bf).1 8125) 35 = .ok (.istore 5, 2) := zd zm_8125 (by decide +kernel)
theorem d_8125_37 {σ : Nat → Nat} {n0 : Nat} {bf : ab_B} : decode (ab_code (zx σ n0 bf).1 8125) 37 = .ok (.aload_n 3, 1) := zd zm_8125 (by decide +kernel)
theorem d_8125_38 {σ : Nat → Nat} {n0 : Nat} {bf : ab_B} : decode (ab_code (zx σ n0 bf).1 8125) 38 = .ok (.iload 4, 2) := zd zm_8125 (by decide +kernel)
theorem d_8125_40 {σ : Nat → Nat} {n0 : Nat} {bf : ab_B} : decode (ab_code (zx σ n0 bf).1 8125) 40 = .ok (.aload_n 0, 1) := zd zm_8125 (by decide +kernel)
theorem d_8125_41 {σ : Nat → Nat} {n0 : Nat} {bf : ab_B} : decode (ab_code (zx σ n0 bf).1 8125) 41 = .ok (.getfield 121, 3) := zd zm_8125 (by decide +kernel)
theorem d_8125_44 {σ : Nat → Nat} {n0 : Nat} {bf : ab_B} : decode (ab_code (zx σ n0 bf).1 8125) 44 = .ok (.iload 5, 2) := zd zm_8125 (by decide +kernel)
theorem d_8125_46 {σ : Nat → Nat} {n0 : Nat} {bf : ab_B} : decode (ab_code (zx σ n0 bf).1 8125) 46 = .ok (.baload, 1) := zd zm_8125 (by decide +kernel)
theorem d_8125_47 {σ : Nat → Nat} {n0 : Nat} {bf : ab_B} : decode (ab_code (zx σ n0 bf).1 8125) 47 = .ok (.ifCond .eq 17, 3) := zd zm_8125 (by decide +kernel)
theorem d_8125_50 {σ : Nat → Nat} {n0 : Nat} {bf : ab_B} : decode (ab_code (zx σ n0 bf).1 8125) 50 = .ok (.aload_n 0, 1) := zd zm_8125 (by decide +kernel)
theorem d_8125_51 {σ : Nat → Nat} {n0 : Nat} {bf : ab_B} : decode (ab_code (zx σ n0 bf).1 8125) 51 = .ok (.aload_n 0, 1) := zd zm_8125 (by decide +kernel)
theorem d_8125_52 {σ : Nat → Nat} {n0 : Nat} {bf : ab_B} : decode (ab_code (zx σ n0 bf).1 8125) 52 = .ok (.getfield 118, 3) := zd zm_8125 (by decide +kernel)
theorem d_8125_55 {σ : Nat → Nat} {n0 : Nat} {bf : ab_B} : decode (ab_code (zx σ n0 bf).1 8125) 55 = .ok (.iload 5, 2) := zd zm_8125 (by decide +kernel)
theorem d_8125_57 {σ : Nat → Nat} {n0 : Nat} {bf : ab_B} : decode (ab_code (zx σ n0 bf).1 8125) 57 = .ok (.iaload, 1) := zd zm_8125 (by decide +kernel)
theorem d_8125_58 {σ : Nat → Nat} {n0 : Nat} {bf : ab_B} : decode (ab_code (zx σ n0 bf).1 8125) 58 = .ok (.invokevirtual 780, 3) := zd zm_8125 (by decide +kernel)
theorem d_8125_61 {σ : Nat → Nat} {n0 : Nat} {bf : ab_B} : decode (ab_code (zx σ n0 bf).1 8125) 61 = .ok (.goto 11, 3) := zd zm_8125 (by decide +kernel)
theorem d_8125_64 {σ : Nat → Nat} {n0 : Nat} {bf : ab_B} : decode (ab_code (zx σ n0 bf).1 8125) 64 = .ok (.aload_n 0, 1) := zd zm_8125 (by decide +kernel)
theorem d_8125_65 {σ : Nat → Nat} {n0 : Nat} {bf : ab_B} : decode (ab_code (zx σ n0 bf).1 8125) 65 = .ok (.getfield 118, 3) := zd zm_8125 (by decide +kernel)
theorem d_8125_68 {σ : Nat → Nat} {n0 : Nat} {bf : ab_B} : decode (ab_code (zx σ n0 bf).1 8125) 68 = .ok (.iload 5, 2) := zd zm_8125 (by decide +kernel)
theorem d_8125_70 {σ : Nat → Nat} {n0 : Nat} {bf : ab_B} : decode (ab_code (zx σ n0 bf).1 8125) 70 = .ok (.iaload, 1) := zd zm_8125 (by decide +kernel)
theorem d_8125_71 {σ : Nat → Nat} {n0 : Nat} {bf : ab_B} : decode (ab_code (zx σ n0 bf).1 8125) 71 = .ok (.i2l, 1) := zd zm_8125 (by decide +kernel)
theorem d_8125_72 {σ : Nat → Nat} {n0 : Nat} {bf : ab_B} : decode (ab_code (zx σ n0 bf).1 8125) 72 = .ok (.lastore, 1) := zd zm_8125 (by decide +kernel)
theorem d_8125_73 {σ : Nat → Nat} {n0 : Nat} {bf : ab_B} : decode (ab_code (zx σ n0 bf).1 8125) 73 = .ok (.aload_n 0, 1) := zd zm_8125 (by decide +kernel)
theorem d_8125_74 {σ : Nat → Nat} {n0 : Nat} {bf : ab_B} : decode (ab_code (zx σ n0 bf).1 8125) 74 = .ok (.getfield 121, 3) := zd zm_8125 (by decide +kernel)
theorem d_8125_77 {σ : Nat → Nat} {n0 : Nat} {bf : ab_B} : decode (ab_code (zx σ n0 bf).1 8125) 77 = .ok (.iload 5, 2) := zd zm_8125 (by decide +kernel)
theorem d_8125_79 {σ : Nat → Nat} {n0 : Nat} {bf : ab_B} : decode (ab_code (zx σ n0 bf).1 8125) 79 = .ok (.baload, 1) := zd zm_8125 (by decide +kernel)
theorem d_8125_80 {σ : Nat → Nat} {n0 : Nat} {bf : ab_B} : decode (ab_code (zx σ n0 bf).1 8125) 80 = .ok (.ifCond .eq 12, 3) := zd zm_8125 (by decide +kernel)
theorem d_8125_83 {σ : Nat → Nat} {n0 : Nat} {bf : ab_B} : decode (ab_code (zx σ n0 bf).1 8125) 83 = .ok (.aload_n 0, 1) := zd zm_8125 (by decide +kernel)
theorem d_8125_84 {σ : Nat → Nat} {n0 : Nat} {bf : ab_B} : decode (ab_code (zx σ n0 bf).1 8125) 84 = .ok (.getfield 623, 3) := zd zm_8125 (by decide +kernel)
theorem d_8125_87 {σ : Nat → Nat} {n0 : Nat} {bf : ab_B} : decode (ab_code (zx σ n0 bf).1 8125) 87 = .ok (.ifCond .eq 5, 3) := zd zm_8125 (by decide +kernel)
theorem d_8125_90 {σ : Nat → Nat} {n0 : Nat} {bf : ab_B} : decode (ab_code (zx σ n0 bf).1 8125) 90 = .ok (.iconst 0, 1) := zd zm_8125 (by decide +kernel)
theorem d_8125_91 {σ : Nat → Nat} {n0 : Nat} {bf : ab_B} : decode (ab_code (zx σ n0 bf).1 8125) 91 = .ok (.ireturn, 1) := zd zm_8125 (by decide +kernel)
theorem d_8125_92 {σ : Nat → Nat} {n0 : Nat} {bf : ab_B} : decode (ab_code (zx σ n0 bf).1 8125) 92 = .ok (.iinc 4 1, 3) := zd zm_8125 (by decide +kernel)
theorem d_8125_95 {σ : Nat → Nat} {n0 : Nat} {bf : ab_B} : decode (ab_code (zx σ n0 bf).1 8125) 95 = .ok (.goto (-80), 3) := zd zm_8125 (by decide +kernel)
theorem d_8125_98 {σ : Nat → Nat} {n0 : Nat} {bf : ab_B} : decode (ab_code (zx σ n0 bf).1 8125) 98 = .ok (.iconst 1, 1) := zd zm_8125 (by decide +kernel)
theorem d_8125_99 {σ : Nat → Nat} {n0 : Nat} {bf : ab_B} : decode (ab_code (zx σ n0 bf).1 8125) 99 = .ok (.istore 4, 2) := zd zm_8125 (by decide +kernel)
theorem d_8125_101 {σ : Nat → Nat} {n0 : Nat} {bf : ab_B} : decode (ab_code (zx σ n0 bf).1 8125) 101 = .ok (.iconst 0, 1) := zd zm_8125 (by decide +kernel)
theorem d_8125_102 {σ : Nat → Nat} {n0 : Nat} {bf : ab_B} : decode (ab_code (zx σ n0 bf).1 8125) 102 = .ok (.istore 5, 2) := zd zm_8125 (by decide +kernel)
theorem d_8125_104 {σ : Nat → Nat} {n0 : Nat} {bf : ab_B} : decode (ab_code (zx σ n0 bf).1 8125) 104 = .ok (.iload 5, 2) := zd zm_8125 (by decide +kernel)
theorem d_8125_106 {σ : Nat → Nat} {n0 : Nat} {bf : ab_B} : decode (ab_code (zx σ n0 bf).1 8125) 106 = .ok (.aload_n 0, 1) := zd zm_8125 (by decide +kernel)
theorem d_8125_107 {σ : Nat → Nat} {n0 : Nat} {bf : ab_B} : decode (ab_code (zx σ n0 bf).1 8125) 107 = .ok (.getfield 127, 3) := zd zm_8125 (by decide +kernel)
theorem d_8125_110 {σ : Nat → Nat} {n0 : Nat} {bf : ab_B} : decode (ab_code (zx σ n0 bf).1 8125) 110 = .ok (.iload_n 2, 1) := zd zm_8125 (by decide +kernel)
theorem d_8125_111 {σ : Nat → Nat} {n0 : Nat} {bf : ab_B} : decode (ab_code (zx σ n0 bf).1 8125) 111 = .ok (.baload, 1) := zd zm_8125 (by decide +kernel)
theorem d_8125_112 {σ : Nat → Nat} {n0 : Nat} {bf : ab_B} : decode (ab_code (zx σ n0 bf).1 8125) 112 = .ok (.if_icmp .ge 65, 3) := zd zm_8125 (by decide +kernel)
theorem d_8125_115 {σ : Nat → Nat} {n0 : Nat} {bf : ab_B} : decode (ab_code (zx σ n0 bf).1 8125) 115 = .ok (.aload_n 0, 1) := zd zm_8125 (by decide +kernel)
theorem d_8125_116 {σ : Nat → Nat} {n0 : Nat} {bf : ab_B} : decode (ab_code (zx σ n0 bf).1 8125) 116 = .ok (.aload_n 0, 1) := zd zm_8125 (by decide +kernel)
theorem d_8125_117 {σ : Nat → Nat} {n0 : Nat} {bf : ab_B} : decode (ab_code (zx σ n0 bf).1 8125) 117 = .ok (.getfield 136, 3) := zd zm_8125 (by decide +kernel)
theorem d_8125_120 {σ : Nat → Nat} {n0 : Nat} {bf : ab_B} : decode (ab_code (zx σ n0 bf).1 8125) 120 = .ok (.aload_n 0, 1) := zd zm_8125 (by decide +kernel)
theorem d_8125_121 {σ : Nat → Nat} {n0 : Nat} {bf : ab_B} : decode (ab_code (zx σ n0 bf).1 8125) 121 = .ok (.getfield 124, 3) := zd zm_8125 (by decide +kernel)
theorem d_8125_124 {σ : Nat → Nat} {n0 : Nat} {bf : ab_B} : decode (ab_code (zx σ n0 bf).1 8125) 124 = .ok (.iload_n 2, 1) := zd zm_8125 (by decide +kernel)
theorem d_8125_125 {σ : Nat → Nat} {n0 : Nat} {bf : ab_B} : decode (ab_code (zx σ n0 bf).1 8125) 125 = .ok (.iaload, 1) := zd zm_8125 (by decide +kernel)
theorem d_8125_126 {σ : Nat → Nat} {n0 : Nat} {bf : ab_B} : decode (ab_code (zx σ n0 bf).1 8125) 126 = .ok (.iload 5, 2) := zd zm_8125 (by decide +kernel)
theorem d_8125_128 {σ : Nat → Nat} {n0 : Nat} {bf : ab_B} : decode (ab_code (zx σ n0 bf).1 8125) 128 = .ok (.iadd, 1) := zd zm_8125 (by decide +kernel)
theorem d_8125_129 {σ : Nat → Nat} {n0 : Nat} {bf : ab_B} : decode (ab_code (zx σ n0 bf).1 8125) 129 = .ok (.iaload, 1) := zd zm_8125 (by decide +kernel)
theorem d_8125_130 {σ : Nat → Nat} {n0 : Nat} {bf : ab_B} : decode (ab_code (zx σ n0 bf).1 8125) 130 = .ok (.invokevirtual 792, 3) := zd zm_8125 (by decide +kernel)
theorem d_8125_133 {σ : Nat → Nat} {n0 : Nat} {bf : ab_B} : decode (ab_code (zx σ n0 bf).1 8125) 133 = .ok (.istore 6, 2) := zd zm_8125 (by decide +kernel)
theorem d_8125_135 {σ : Nat → Nat} {n0 : Nat} {bf : ab_B} : decode (ab_code (zx σ n0 bf).1 8125) 135 = .ok (.iload 4, 2) := zd zm_8125 (by decide +kernel)
theorem d_8125_137 {σ : Nat → Nat} {n0 : Nat} {bf : ab_B} : decode (ab_code (zx σ n0 bf).1 8125) 137 = .ok (.ifCond .eq 31, 3) := zd zm_8125 (by decide +kernel)
theorem d_8125_140 {σ : Nat → Nat} {n0 : Nat} {bf : ab_B} : decode (ab_code (zx σ n0 bf).1 8125) 140 = .ok (.aload_n 3, 1) := zd zm_8125 (by decide +kernel)
theorem d_8125_141 {σ : Nat → Nat} {n0 : Nat} {bf : ab_B} : decode (ab_code (zx σ n0 bf).1 8125) 141 = .ok (.iload 5, 2) := zd zm_8125 (by decide +kernel)
theorem d_8125_143 {σ : Nat → Nat} {n0 : Nat} {bf : ab_B} : decode (ab_code (zx σ n0 bf).1 8125) 143 = .ok (.laload, 1) := zd zm_8125 (by decide +kernel)
theorem d_8125_144 {σ : Nat → Nat} {n0 : Nat} {bf : ab_B} : decode (ab_code (zx σ n0 bf).1 8125) 144 = .ok (.aload_n 0, 1) := zd zm_8125 (by decide +kernel)
theorem d_8125_145 {σ : Nat → Nat} {n0 : Nat} {bf : ab_B} : decode (ab_code (zx σ n0 bf).1 8125) 145 = .ok (.getfield 783, 3) := zd zm_8125 (by decide +kernel)
theorem d_8125_148 {σ : Nat → Nat} {n0 : Nat} {bf : ab_B} : decode (ab_code (zx σ n0 bf).1 8125) 148 = .ok (.lcmp, 1) := zd zm_8125 (by decide +kernel)
theorem d_8125_149 {σ : Nat → Nat} {n0 : Nat} {bf : ab_B} : decode (ab_code (zx σ n0 bf).1 8125) 149 = .ok (.ifCond .lt 19, 3) := zd zm_8125 (by decide +kernel)
theorem d_8125_152 {σ : Nat → Nat} {n0 : Nat} {bf : ab_B} : decode (ab_code (zx σ n0 bf).1 8125) 152 = .ok (.aload_n 3, 1) := zd zm_8125 (by decide +kernel)
theorem d_8125_153 {σ : Nat → Nat} {n0 : Nat} {bf : ab_B} : decode (ab_code (zx σ n0 bf).1 8125) 153 = .ok (.iload 5, 2) := zd zm_8125 (by decide +kernel)
theorem d_8125_155 {σ : Nat → Nat} {n0 : Nat} {bf : ab_B} : decode (ab_code (zx σ n0 bf).1 8125) 155 = .ok (.laload, 1) := zd zm_8125 (by decide +kernel)
theorem d_8125_156 {σ : Nat → Nat} {n0 : Nat} {bf : ab_B} : decode (ab_code (zx σ n0 bf).1 8125) 156 = .ok (.aload_n 0, 1) := zd zm_8125 (by decide +kernel)
theorem d_8125_157 {σ : Nat → Nat} {n0 : Nat} {bf : ab_B} : decode (ab_code (zx σ n0 bf).1 8125) 157 = .ok (.getfield 786, 3) := zd zm_8125 (by decide +kernel)
theorem d_8125_160 {σ : Nat → Nat} {n0 : Nat} {bf : ab_B} : decode (ab_code (zx σ n0 bf).1 8125) 160 = .ok (.lcmp, 1) := zd zm_8125 (by decide +kernel)
theorem d_8125_161 {σ : Nat → Nat} {n0 : Nat} {bf : ab_B} : decode (ab_code (zx σ n0 bf).1 8125) 161 = .ok (.ifCond .gt 7, 3) := zd zm_8125 (by decide +kernel)
theorem d_8125_164 {σ : Nat → Nat} {n0 : Nat} {bf : ab_B} : decode (ab_code (zx σ n0 bf).1 8125) 164 = .ok (.iconst 1, 1) := zd zm_8125 (by decide +kernel)
theorem d_8125_165 {σ : Nat → Nat} {n0 : Nat} {bf : ab_B} : decode (ab_code (zx σ n0 bf).1 8125) 165 = .ok (.goto 4, 3) := zd zm_8125 (by decide +kernel)
theorem d_8125_168 {σ : Nat → Nat} {n0 : Nat} {bf : ab_B} : decode (ab_code (zx σ n0 bf).1 8125) 168 = .ok (.iconst 0, 1) := zd zm_8125 (by decide +kernel)
theorem d_8125_169 {σ : Nat → Nat} {n0 : Nat} {bf : ab_B} : decode (ab_code (zx σ n0 bf).1 8125) 169 = .ok (.istore 4, 2) := zd zm_8125 (by decide +kernel)
theorem d_8125_171 {σ : Nat → Nat} {n0 : Nat} {bf : ab_B} : decode (ab_code (zx σ n0 bf).1 8125) 171 = .ok (.iinc 5 1, 3) := zd zm_8125 (by decide +kernel)
theorem d_8125_174 {σ : Nat → Nat} {n0 : Nat} {bf : ab_B} : decode (ab_code (zx σ n0 bf).1 8125) 174 = .ok (.goto (-70), 3) := zd zm_8125 (by decide +kernel)
theorem d_8125_177 {σ : Nat → Nat} {n0 : Nat} {bf : ab_B} : decode (ab_code (zx σ n0 bf).1 8125) 177 = .ok (.aload_n 0, 1) := zd zm_8125 (by decide +kernel)
theorem d_8125_178 {σ : Nat → Nat} {n0 : Nat} {bf : ab_B} : decode (ab_code (zx σ n0 bf).1 8125) 178 = .ok (.aload_n 3, 1) := zd zm_8125 (by decide +kernel)
theorem d_8125_179 {σ : Nat → Nat} {n0 : Nat} {bf : ab_B} : decode (ab_code (zx σ n0 bf).1 8125) 179 = .ok (.iconst 0, 1) := zd zm_8125 (by decide +kernel)
theorem d_8125_180 {σ : Nat → Nat} {n0 : Nat} {bf : ab_B} : decode (ab_code (zx σ n0 bf).1 8125) 180 = .ok (.laload, 1) := zd zm_8125 (by decide +kernel)
theorem d_8125_181 {σ : Nat → Nat} {n0 : Nat} {bf : ab_B} : decode (ab_code (zx σ n0 bf).1 8125) 181 = .ok (.putfield 610, 3) := zd zm_8125 (by decide +kernel)
theorem d_8125_184 {σ : Nat → Nat} {n0 : Nat} {bf : ab_B} : decode (ab_code (zx σ n0 bf).1 8125) 184 = .ok (.aload_n 0, 1) := zd zm_8125 (by decide +kernel)
theorem d_8125_185 {σ : Nat → Nat} {n0 : Nat} {bf : ab_B} : decode (ab_code (zx σ n0 bf).1 8125) 185 = .ok (.aload_n 3, 1) := zd zm_8125 (by decide +kernel)
theorem d_8125_186 {σ : Nat → Nat} {n0 : Nat} {bf : ab_B} : decode (ab_code (zx σ n0 bf).1 8125) 186 = .ok (.iconst 1, 1) := zd zm_8125 (by decide +kernel)
theorem d_8125_187 {σ : Nat → Nat} {n0 : Nat} {bf : ab_B} : decode (ab_code (zx σ n0 bf).1 8125) 187 = .ok (.laload, 1) := zd zm_8125 (by decide +kernel)
theorem d_8125_188 {σ : Nat → Nat} {n0 : Nat} {bf : ab_B} : decode (ab_code (zx σ n0 bf).1 8125) 188 = .ok (.putfield 614, 3) := zd zm_8125 (by decide +kernel)
theorem d_8125_191 {σ : Nat → Nat} {n0 : Nat} {bf : ab_B} : decode (ab_code (zx σ n0 bf).1 8125) 191 = .ok (.aload_n 0, 1) := zd zm_8125 (by decide +kernel)
theorem d_8125_192 {σ : Nat → Nat} {n0 : Nat} {bf : ab_B} : decode (ab_code (zx σ n0 bf).1 8125) 192 = .ok (.aload_n 3, 1) := zd zm_8125 (by decide +kernel)
theorem d_8125_193 {σ : Nat → Nat} {n0 : Nat} {bf : ab_B} : decode (ab_code (zx σ n0 bf).1 8125) 193 = .ok (.iconst 2, 1) := zd zm_8125 (by decide +kernel)
theorem d_8125_194 {σ : Nat → Nat} {n0 : Nat} {bf : ab_B} : decode (ab_code (zx σ n0 bf).1 8125) 194 = .ok (.laload, 1) := zd zm_8125 (by decide +kernel)
theorem d_8125_195 {σ : Nat → Nat} {n0 : Nat} {bf : ab_B} : decode (ab_code (zx σ n0 bf).1 8125) 195 = .ok (.putfield 617, 3) := zd zm_8125 (by decide +kernel)
theorem d_8125_198 {σ : Nat → Nat} {n0 : Nat} {bf : ab_B} : decode (ab_code (zx σ n0 bf).1 8125) 198 = .ok (.aload_n 0, 1) := zd zm_8125 (by decide +kernel)
theorem d_8125_199 {σ : Nat → Nat} {n0 : Nat} {bf : ab_B} : decode (ab_code (zx σ n0 bf).1 8125) 199 = .ok (.aload_n 3, 1) := zd zm_8125 (by decide +kernel)
theorem d_8125_200 {σ : Nat → Nat} {n0 : Nat} {bf : ab_B} : decode (ab_code (zx σ n0 bf).1 8125) 200 = .ok (.iconst 3, 1) := zd zm_8125 (by decide +kernel)
theorem d_8125_201 {σ : Nat → Nat} {n0 : Nat} {bf : ab_B} : decode (ab_code (zx σ n0 bf).1 8125) 201 = .ok (.laload, 1) := zd zm_8125 (by decide +kernel)
theorem d_8125_202 {σ : Nat → Nat} {n0 : Nat} {bf : ab_B} : decode (ab_code (zx σ n0 bf).1 8125) 202 = .ok (.putfield 620, 3) := zd zm_8125 (by decide +kernel)
theorem d_8125_205 {σ : Nat → Nat} {n0 : Nat} {bf : ab_B} : decode (ab_code (zx σ n0 bf).1 8125) 205 = .ok (.iload 4, 2) := zd zm_8125 (by decide +kernel)
theorem d_8125_207 {σ : Nat → Nat} {n0 : Nat} {bf : ab_B} : decode (ab_code (zx σ n0 bf).1 8125) 207 = .ok (.ireturn, 1) := zd zm_8125 (by decide +kernel)
def w_X9_enter_72 (X : zs_X) (d : Nat) (p0 : Nat) (p1 : Int32) (p2 : Int32) (p3 : Option Nat) (p4 : Int32) (p5 : Int32) (q0 : Option Nat) (q1 : Int32) (q2 : Int64) (S : zs_T) (Q : zs_Q) : Prop :=
  (∃ b1, q0 = some b1 ∧ zs_A S b1 3 q1 ∧ ab_n0 X.1 ≤ b1 ∧ ∀ S5, S5 = zs_sj S b1 q1.toNatClampNeg q2 → zs_K S p0 = some (.inl 8) ∧ ∃ b9, (zs_R S5 8055 p0) = some b9 ∧ zs_A S b9 2 p5 ∧ (((zs_i S5 b9 p5.toNatClampNeg) = 0 → (zs_U X d 8125 15 [(0, .ref p0), (1, .int p1), (2, .int p2), (3, va_rf p3), (4, .int (p4 + (1 : Int32)))] [] S5 Q)) ∧ (¬ ((zs_i S5 b9 p5.toNatClampNeg) = 0) → ((((zs_I S5 8080 p0) = 0 → (zs_U X d 8125 15 [(0, .ref p0), (1, .int p1), (2, .int p2), (3, va_rf p3), (4, .int (p4 + (1 : Int32)))] [] S5 Q)) ∧ (¬ ((zs_I S5 8080 p0) = 0) → (Q (.returned (some (.int (0 : Int32)))) S5)))))))
theorem u_X9_enter_72 {σ : Nat → Nat} {n0 : Nat} {bf : ab_B} {d : Nat} {p0 : Nat} {p1 : Int32} {p2 : Int32} {p3 : Option Nat} {p4 : Int32} {p5 : Int32} {q0 : Option Nat} {q1 : Int32} {q2 : Int64} {S : zs_T} {Q : zs_Q} (hB : zt_B bf) (h : w_X9_enter_72 (zx σ n0 bf) d p0 p1 p2 p3 p4 p5 q0 q1 q2 S Q) : zs_U (zx σ n0 bf) d 8125 72 [(0, .ref p0), (1, .int p1), (2, .int p2), (3, va_rf p3), (4, .int p4), (5, .int p5)] [.long q2, .int q1, va_rf q0] S Q := by
  unfold w_X9_enter_72 at h
  obtain ⟨b1, e2, h⟩ := h
  refine zs_stk2 (zs_rfe e2) ?_
  obtain ⟨k3, h⟩ := h
  obtain ⟨k4, h⟩ := h
  refine zu_last (k := 3) d_8125_72 rfl rfl k4 k3 ?_
  generalize e6 : zs_sj S b1 q1.toNatClampNeg q2 = S5
  have h := h S5 e6.symm
  have K7 : ∀ b, zs_K S5 b = zs_K S b := zs_Kt e6 (zs_Ksj _ _ _ _) (fun _ => rfl)
  refine zu_aload_n d_8125_73 rfl (zs_ra _) ?_
  obtain ⟨k8, h⟩ := h
  refine zg_8_121 rfl d_8125_74 ((K7 _).trans k8) ?_
  refine zu_iload d_8125_77 rfl ?_
  obtain ⟨b9, e10, h⟩ := h
  refine zs_stk1 (zs_rfe e10) ?_
  obtain ⟨k11, h⟩ := h
  refine zu_bald (k := 2) d_8125_79 rfl (Or.inr rfl) (zs_Ak K7 k11) ?_
  refine zu_ifeq (t := 92) d_8125_80 rfl (fun c12 => ?_) (fun c12 => ?_)
  · have h := h.1 c12
    refine zu_iinc d_8125_92 rfl zi_1 (zs_lt zq_8125 rfl) ?_
    refine zs_U.weak (L1 := [(4, .int (p4 + (1 : Int32))), (0, .ref p0), (1, .int p1), (2, .int p2), (3, va_rf p3), (5, .int p5)]) ?_ ⟨rfl, zs_gp1 rfl (Or.inl rfl) rfl, zs_gp1 rfl (Or.inl rfl) rfl, zs_gp1 rfl (Or.inl rfl) rfl, zs_gp1 rfl (Or.inl (zs_cat _)) rfl, zs_gp1 rfl (Or.inl rfl) rfl, trivial⟩
    refine zu_goto (t := 15) d_8125_95 rfl ?_
    exact h.weak ⟨rfl, rfl, rfl, rfl, rfl, trivial⟩
  · have h := h.2 c12
    refine zu_aload_n d_8125_83 rfl (zs_ra _) ?_
    refine zg_8_623 rfl d_8125_84 ((K7 _).trans k8) ?_
    refine zu_ifeq (t := 92) d_8125_87 rfl (fun c13 => ?_) (fun c13 => ?_)
    · have h := h.1 c13
      refine zu_iinc d_8125_92 rfl zi_1 (zs_lt zq_8125 rfl) ?_
      refine zs_U.weak (L1 := [(4, .int (p4 + (1 : Int32))), (0, .ref p0), (1, .int p1), (2, .int p2), (3, va_rf p3), (5, .int p5)]) ?_ ⟨rfl, zs_gp1 rfl (Or.inl rfl) rfl, zs_gp1 rfl (Or.inl rfl) rfl, zs_gp1 rfl (Or.inl rfl) rfl, zs_gp1 rfl (Or.inl (zs_cat _)) rfl, zs_gp1 rfl (Or.inl rfl) rfl, trivial⟩
      refine zu_goto (t := 15) d_8125_95 rfl ?_
      exact h.weak ⟨rfl, rfl, rfl, rfl, rfl, trivial⟩
    · have h := h.2 c13
      refine zu_iconst d_8125_90 zi_0 ?_
      exact zu_iret d_8125_91 zr_8125 (zs_b_n (Or.inl rfl)) h
def w_X9_enter_15 (X : zs_X) (d : Nat) (p0 : Nat) (p1 : Int32) (p2 : Int32) (p3 : Option Nat) (p4 : Int32) (S : zs_T) (Q : zs_Q) : Prop :=
  (zs_K S p0 = some (.inl 8) ∧ ∃ b2, (zs_R S 8058 p0) = some b2 ∧ zs_A S b2 1 p2 ∧ (((zs_i S b2 p2.toNatClampNeg) ≤ p4 → (zs_U X d 8125 104 [(0, .ref p0), (2, .int p2), (3, va_rf p3), (4, .int (1 : Int32)), (5, .int (0 : Int32))] [] S Q)) ∧ (¬ ((zs_i S b2 p2.toNatClampNeg) ≤ p4) → (∃ b6, (zs_R S 8046 p0) = some b6 ∧ zs_A S b6 0 p1 ∧ ∃ b9, (zs_R S 8055 p0) = some b9 ∧ zs_A S b9 2 ((zs_i S b6 p1.toNatClampNeg) + p4) ∧ (((zs_i S b9 ((zs_i S b6 p1.toNatClampNeg) + p4).toNatClampNeg) = 0 → (∃ b13, (zs_R S 8054 p0) = some b13 ∧ zs_A S b13 0 ((zs_i S b6 p1.toNatClampNeg) + p4) ∧ w_X9_enter_72 X d p0 p1 p2 p3 p4 ((zs_i S b6 p1.toNatClampNeg) + p4) p3 p4 (((zs_i S b13 ((zs_i S b6 p1.toNatClampNeg) + p4).toNatClampNeg)).toInt64) S Q)) ∧ (¬ ((zs_i S b9 ((zs_i S b6 p1.toNatClampNeg) + p4).toNatClampNeg) = 0) → (∃ b16, (zs_R S 8054 p0) = some b16 ∧ zs_A S b16 0 ((zs_i S b6 p1.toNatClampNeg) + p4) ∧ zs_C X d 8104 [.ref p0, .int (zs_i S b16 ((zs_i S b6 p1.toNatClampNeg) + p4).toNatClampNeg)] S (zs_kJ (fun v20 S19 => (w_X9_enter_72 X d p0 p1 p2 p3 p4 ((zs_i S b6 p1.toNatClampNeg) + p4) p3 p4 v20 S19 Q)) Q))))))))
theorem u_X9_enter_15 {σ : Nat → Nat} {n0 : Nat} {bf : ab_B} {d : Nat} {p0 : Nat} {p1 : Int32} {p2 : Int32} {p3 : Option Nat} {p4 : Int32} {S : zs_T} {Q : zs_Q} (hB : zt_B bf) (h : w_X9_enter_15 (zx σ n0 bf) d p0 p1 p2 p3 p4 S Q) : zs_U (zx σ n0 bf) d 8125 15 [(0, .ref p0), (1, .int p1), (2, .int p2), (3, va_rf p3), (4, .int p4)] [] S Q := by
  unfold w_X9_enter_15 at h
  refine zu_iload d_8125_15 rfl ?_
  refine zu_aload_n d_8125_17 rfl (zs_ra _) ?_
  obtain ⟨k1, h⟩ := h
  refine zg_8_127 rfl d_8125_18 k1 ?_
  refine zu_iload_n d_8125_21 rfl ?_
  obtain ⟨b2, e3, h⟩ := h
  refine zs_stk1 (zs_rfe e3) ?_
  obtain ⟨k4, h⟩ := h
  refine zu_bald (k := 1) d_8125_22 rfl (Or.inl rfl) k4 ?_
  refine zu_cmpge (t := 98) d_8125_23 rfl (fun c5 => ?_) (fun c5 => ?_)
  · have h := h.1 c5
    refine zu_iconst d_8125_98 zi_1 ?_
    refine zu_istore d_8125_99 (zs_lt zq_8125 rfl) ?_
    refine zs_U.weak (L1 := [(4, .int (1 : Int32)), (0, .ref p0), (1, .int p1), (2, .int p2), (3, va_rf p3)]) ?_ ⟨rfl, zs_gp1 rfl (Or.inl rfl) rfl, zs_gp1 rfl (Or.inl rfl) rfl, zs_gp1 rfl (Or.inl rfl) rfl, zs_gp1 rfl (Or.inl (zs_cat _)) rfl, trivial⟩
    refine zu_iconst d_8125_101 zi_0 ?_
    refine zu_istore d_8125_102 (zs_lt zq_8125 rfl) ?_
    exact h.weak ⟨rfl, rfl, rfl, rfl, rfl, trivial⟩
  · have h := h.2 c5
    refine zu_aload_n d_8125_26 rfl (zs_ra _) ?_
    refine zg_8_96 rfl d_8125_27 k1 ?_
    refine zu_iload_n d_8125_30 rfl ?_
    obtain ⟨b6, e7, h⟩ := h
    refine zs_stk1 (zs_rfe e7) ?_
    obtain ⟨k8, h⟩ := h
    refine zu_iald (k := 0) d_8125_31 rfl rfl k8 ?_
    refine zu_iload d_8125_32 rfl ?_
    refine zu_stk d_8125_34 rfl rfl ?_
    refine zu_istore d_8125_35 (zs_lt zq_8125 rfl) ?_
    refine zu_aload_n d_8125_37 rfl (zs_rr _) ?_
    refine zu_iload d_8125_38 rfl ?_
    refine zu_aload_n d_8125_40 rfl (zs_ra _) ?_
    refine zg_8_121 rfl d_8125_41 k1 ?_
    refine zu_iload d_8125_44 rfl ?_
    obtain ⟨b9, e10, h⟩ := h
    refine zs_stk1 (zs_rfe e10) ?_
    obtain ⟨k11, h⟩ := h
    refine zu_bald (k := 2) d_8125_46 rfl (Or.inr rfl) k11 ?_
    refine zu_ifeq (t := 64) d_8125_47 rfl (fun c12 => ?_) (fun c12 => ?_)
    · have h := h.1 c12
      refine zu_aload_n d_8125_64 rfl (zs_ra _) ?_
      refine zg_8_118 rfl d_8125_65 k1 ?_
      refine zu_iload d_8125_68 rfl ?_
      obtain ⟨b13, e14, h⟩ := h
      refine zs_stk1 (zs_rfe e14) ?_
      obtain ⟨k15, h⟩ := h
      refine zu_iald (k := 0) d_8125_70 rfl rfl k15 ?_
      refine zu_stk d_8125_71 rfl rfl ?_
      exact (u_X9_enter_72 hB h).weak ⟨rfl, rfl, rfl, rfl, rfl, rfl, trivial⟩
    · have h := h.2 c12
      refine zu_aload_n d_8125_50 rfl (zs_ra _) ?_
      refine zu_aload_n d_8125_51 rfl (zs_ra _) ?_
      refine zg_8_118 rfl d_8125_52 k1 ?_
      refine zu_iload d_8125_55 rfl ?_
      obtain ⟨b16, e17, h⟩ := h
      refine zs_stk1 (zs_rfe e17) ?_
      obtain ⟨k18, h⟩ := h
      refine zu_iald (k := 0) d_8125_57 rfl rfl k18 ?_
      refine zc_8_780 (x0 := (zs_i S b16 ((zs_i S b6 p1.toNatClampNeg) + p4).toNatClampNeg)) hB rfl k1 d_8125_58 (by simp only [List.map_cons, List.map_nil, List.sum_cons, List.sum_nil, zs_cat, zs_cI, zs_cJ, zs_cA]; exact Nat.le_of_ble_eq_true rfl) h (fun v20 S19 h => ?_)
      refine zu_goto (t := 72) d_8125_61 rfl ?_
      exact (u_X9_enter_72 hB h).weak ⟨rfl, rfl, rfl, rfl, rfl, rfl, trivial⟩
def w_X9_enter_191 (X : zs_X) (d : Nat) (p0 : Nat) (p3 : Option Nat) (p4 : Int32) (S : zs_T) (Q : zs_Q) : Prop :=
  (∃ b1, p3 = some b1 ∧ zs_A S b1 3 (2 : Int32) ∧ zs_K S p0 = some (.inl 8) ∧ ab_n0 X.1 ≤ p0 ∧ ∀ S6, S6 = zs_sJ S 8083 p0 (zs_j S b1 (2 : Int32).toNatClampNeg) → zs_A S b1 3 (3 : Int32) ∧ ∀ S10, S10 = zs_sJ S6 8084 p0 (zs_j S6 b1 (3 : Int32).toNatClampNeg) → zs_b p4 ∧ Q (.returned (some (.int p4))) S10)
theorem u_X9_enter_191 {σ : Nat → Nat} {n0 : Nat} {bf : ab_B} {d : Nat} {p0 : Nat} {p3 : Option Nat} {p4 : Int32} {S : zs_T} {Q : zs_Q} (hB : zt_B bf) (h : w_X9_enter_191 (zx σ n0 bf) d p0 p3 p4 S Q) : zs_U (zx σ n0 bf) d 8125 191 [(0, .ref p0), (3, va_rf p3), (4, .int p4)] [] S Q := by
  unfold w_X9_enter_191 at h
  refine zu_aload_n d_8125_191 rfl (zs_ra _) ?_
  refine zu_aload_n d_8125_192 rfl (zs_rr _) ?_
  refine zu_iconst d_8125_193 zi_2 ?_
  obtain ⟨b1, e2, h⟩ := h
  refine zs_stk1 (zs_rfe e2) ?_
  obtain ⟨k3, h⟩ := h
  refine zu_lald (k := 3) d_8125_194 rfl rfl k3 ?_
  obtain ⟨k4, h⟩ := h
  obtain ⟨k5, h⟩ := h
  refine zp_8_617 (v := (zs_j S b1 (2 : Int32).toNatClampNeg)) rfl d_8125_195 k4 k5 ?_
  generalize e7 : zs_sJ S 8083 p0 (zs_j S b1 (2 : Int32).toNatClampNeg) = S6
  have h := h S6 e7.symm
  have K8 : ∀ b, zs_K S6 b = zs_K S b := zs_Kt e7 (zs_KsJ _ _ _ _) (fun _ => rfl)
  refine zu_aload_n d_8125_198 rfl (zs_ra _) ?_
  refine zu_aload_n d_8125_199 rfl (zs_rr _) ?_
  refine zu_iconst d_8125_200 zi_3 ?_
  refine zs_stk1 (zs_rfe e2) ?_
  obtain ⟨k9, h⟩ := h
  refine zu_lald (k := 3) d_8125_201 rfl rfl (zs_Ak K8 k9) ?_
  refine zp_8_620 (v := (zs_j S6 b1 (3 : Int32).toNatClampNeg)) rfl d_8125_202 ((K8 _).trans k4) k5 ?_
  generalize e11 : zs_sJ S6 8084 p0 (zs_j S6 b1 (3 : Int32).toNatClampNeg) = S10
  have h := h S10 e11.symm
  have K12 : ∀ b, zs_K S10 b = zs_K S b := zs_Kt e11 (zs_KsJ _ _ _ _) K8
  refine zu_iload d_8125_205 rfl ?_
  obtain ⟨k13, h⟩ := h
  exact zu_iret d_8125_207 zr_8125 (zs_b_n k13) h
def w_X9_enter_168 (X : zs_X) (d : Nat) (p0 : Nat) (p2 : Int32) (p3 : Option Nat) (p5 : Int32) (S : zs_T) (Q : zs_Q) : Prop :=
  (zs_U X d 8125 104 [(0, .ref p0), (2, .int p2), (3, va_rf p3), (4, .int (0 : Int32)), (5, .int (p5 + (1 : Int32)))] [] S Q)
theorem u_X9_enter_168 {σ : Nat → Nat} {n0 : Nat} {bf : ab_B} {d : Nat} {p0 : Nat} {p2 : Int32} {p3 : Option Nat} {p5 : Int32} {S : zs_T} {Q : zs_Q} (hB : zt_B bf) (h : w_X9_enter_168 (zx σ n0 bf) d p0 p2 p3 p5 S Q) : zs_U (zx σ n0 bf) d 8125 168 [(0, .ref p0), (2, .int p2), (3, va_rf p3), (5, .int p5)] [] S Q := by
  unfold w_X9_enter_168 at h
  refine zu_iconst d_8125_168 zi_0 ?_
  refine zu_istore d_8125_169 (zs_lt zq_8125 rfl) ?_
  refine zs_U.weak (L1 := [(4, .int (0 : Int32)), (0, .ref p0), (2, .int p2), (3, va_rf p3), (5, .int p5)]) ?_ ⟨rfl, zs_gp1 rfl (Or.inl rfl) rfl, zs_gp1 rfl (Or.inl rfl) rfl, zs_gp1 rfl (Or.inl (zs_cat _)) rfl, zs_gp1 rfl (Or.inl rfl) rfl, trivial⟩
  refine zu_iinc d_8125_171 rfl zi_1 (zs_lt zq_8125 rfl) ?_
  refine zu_goto (t := 104) d_8125_174 rfl ?_
  exact h.weak ⟨rfl, rfl, rfl, rfl, rfl, trivial⟩
def w_X9_enter_164 (X : zs_X) (d : Nat) (p0 : Nat) (p2 : Int32) (p3 : Option Nat) (p5 : Int32) (S : zs_T) (Q : zs_Q) : Prop :=
  (zs_U X d 8125 104 [(0, .ref p0), (2, .int p2), (3, va_rf p3), (4, .int (1 : Int32)), (5, .int (p5 + (1 : Int32)))] [] S Q)
theorem u_X9_enter_164 {σ : Nat → Nat} {n0 : Nat} {bf : ab_B} {d : Nat} {p0 : Nat} {p2 : Int32} {p3 : Option Nat} {p5 : Int32} {S : zs_T} {Q : zs_Q} (hB : zt_B bf) (h : w_X9_enter_164 (zx σ n0 bf) d p0 p2 p3 p5 S Q) : zs_U (zx σ n0 bf) d 8125 164 [(0, .ref p0), (2, .int p2), (3, va_rf p3), (5, .int p5)] [] S Q := by
  unfold w_X9_enter_164 at h
  refine zu_iconst d_8125_164 zi_1 ?_
  refine zu_goto (t := 169) d_8125_165 rfl ?_
  refine zu_istore d_8125_169 (zs_lt zq_8125 rfl) ?_
  refine zs_U.weak (L1 := [(4, .int (1 : Int32)), (0, .ref p0), (2, .int p2), (3, va_rf p3), (5, .int p5)]) ?_ ⟨rfl, zs_gp1 rfl (Or.inl rfl) rfl, zs_gp1 rfl (Or.inl rfl) rfl, zs_gp1 rfl (Or.inl (zs_cat _)) rfl, zs_gp1 rfl (Or.inl rfl) rfl, trivial⟩
  refine zu_iinc d_8125_171 rfl zi_1 (zs_lt zq_8125 rfl) ?_
  refine zu_goto (t := 104) d_8125_174 rfl ?_
  exact h.weak ⟨rfl, rfl, rfl, rfl, rfl, trivial⟩
def w_X9_enter_135 (X : zs_X) (d : Nat) (p0 : Nat) (p2 : Int32) (p3 : Option Nat) (p4 : Int32) (p5 : Int32) (S : zs_T) (Q : zs_Q) : Prop :=
  (((p4 = 0 → w_X9_enter_168 X d p0 p2 p3 p5 S Q) ∧ (¬ (p4 = 0) → (∃ b2, p3 = some b2 ∧ zs_A S b2 3 p5 ∧ zs_K S p0 = some (.inl 8) ∧ (((zs_j S b2 p5.toNatClampNeg) < (zs_J S 8125 p0) → w_X9_enter_168 X d p0 p2 p3 p5 S Q) ∧ (¬ ((zs_j S b2 p5.toNatClampNeg) < (zs_J S 8125 p0)) → ((((zs_J S 8126 p0) < (zs_j S b2 p5.toNatClampNeg) → w_X9_enter_168 X d p0 p2 p3 p5 S Q) ∧ (¬ ((zs_J S 8126 p0) < (zs_j S b2 p5.toNatClampNeg)) → w_X9_enter_164 X d p0 p2 p3 p5 S Q)))))))))
theorem u_X9_enter_135 {σ : Nat → Nat} {n0 : Nat} {bf : ab_B} {d : Nat} {p0 : Nat} {p2 : Int32} {p3 : Option Nat} {p4 : Int32} {p5 : Int32} {S : zs_T} {Q : zs_Q} (hB : zt_B bf) (h : w_X9_enter_135 (zx σ n0 bf) d p0 p2 p3 p4 p5 S Q) : zs_U (zx σ n0 bf) d 8125 135 [(0, .ref p0), (2, .int p2), (3, va_rf p3), (4, .int p4), (5, .int p5)] [] S Q := by
  unfold w_X9_enter_135 at h
  refine zu_iload d_8125_135 rfl ?_
  refine zu_ifeq (t := 168) d_8125_137 rfl (fun c1 => ?_) (fun c1 => ?_)
  · have h := h.1 c1
    exact (u_X9_enter_168 hB h).weak ⟨rfl, rfl, rfl, rfl, trivial⟩
  · have h := h.2 c1
    refine zu_aload_n d_8125_140 rfl (zs_rr _) ?_
    refine zu_iload d_8125_141 rfl ?_
    obtain ⟨b2, e3, h⟩ := h
    refine zs_stk1 (zs_rfe e3) ?_
    obtain ⟨k4, h⟩ := h
    refine zu_lald (k := 3) d_8125_143 rfl rfl k4 ?_
    refine zu_aload_n d_8125_144 rfl (zs_ra _) ?_
    obtain ⟨k5, h⟩ := h
    refine zg_8_783 rfl d_8125_145 k5 ?_
    refine zu_llt (t := 168) d_8125_148 d_8125_149 rfl (fun c6 => ?_) (fun c6 => ?_)
    · have h := h.1 c6
      exact (u_X9_enter_168 hB h).weak ⟨rfl, rfl, rfl, rfl, trivial⟩
    · have h := h.2 c6
      refine zu_aload_n d_8125_152 rfl (zs_rr _) ?_
      refine zu_iload d_8125_153 rfl ?_
      refine zs_stk1 (zs_rfe e3) ?_
      refine zu_lald (k := 3) d_8125_155 rfl rfl k4 ?_
      refine zu_aload_n d_8125_156 rfl (zs_ra _) ?_
      refine zg_8_786 rfl d_8125_157 k5 ?_
      refine zu_lgt (t := 168) d_8125_160 d_8125_161 rfl (fun c7 => ?_) (fun c7 => ?_)
      · have h := h.1 c7
        exact (u_X9_enter_168 hB h).weak ⟨rfl, rfl, rfl, rfl, trivial⟩
      · have h := h.2 c7
        exact (u_X9_enter_164 hB h).weak ⟨rfl, rfl, rfl, rfl, trivial⟩
def w_X9_enter_104 (X : zs_X) (d : Nat) (p0 : Nat) (p2 : Int32) (p3 : Option Nat) (p4 : Int32) (p5 : Int32) (S : zs_T) (Q : zs_Q) : Prop :=
  (zs_K S p0 = some (.inl 8) ∧ ∃ b2, (zs_R S 8058 p0) = some b2 ∧ zs_A S b2 1 p2 ∧ (((zs_i S b2 p2.toNatClampNeg) ≤ p5 → (∃ b6, p3 = some b6 ∧ zs_A S b6 3 (0 : Int32) ∧ ab_n0 X.1 ≤ p0 ∧ ∀ S10, S10 = zs_sJ S 8081 p0 (zs_j S b6 (0 : Int32).toNatClampNeg) → zs_A S b6 3 (1 : Int32) ∧ ∀ S14, S14 = zs_sJ S10 8082 p0 (zs_j S10 b6 (1 : Int32).toNatClampNeg) → w_X9_enter_191 X d p0 p3 p4 S14 Q)) ∧ (¬ ((zs_i S b2 p2.toNatClampNeg) ≤ p5) → (∃ b17, (zs_R S 8057 p0) = some b17 ∧ zs_A S b17 0 p2 ∧ ∃ b20, (zs_R S 8062 p0) = some b20 ∧ zs_A S b20 0 ((zs_i S b17 p2.toNatClampNeg) + p5) ∧ zs_C X d 8123 [.ref p0, .int (zs_i S b20 ((zs_i S b17 p2.toNatClampNeg) + p5).toNatClampNeg)] S (zs_kI (fun v24 S23 => (w_X9_enter_135 X d p0 p2 p3 p4 p5 S23 Q)) Q)))))
theorem u_X9_enter_104 {σ : Nat → Nat} {n0 : Nat} {bf : ab_B} {d : Nat} {p0 : Nat} {p2 : Int32} {p3 : Option Nat} {p4 : Int32} {p5 : Int32} {S : zs_T} {Q : zs_Q} (hB : zt_B bf) (h : w_X9_enter_104 (zx σ n0 bf) d p0 p2 p3 p4 p5 S Q) : zs_U (zx σ n0 bf) d 8125 104 [(0, .ref p0), (2, .int p2), (3, va_rf p3), (4, .int p4), (5, .int p5)] [] S Q := by
  unfold w_X9_enter_104 at h
  refine zu_iload d_8125_104 rfl ?_
  refine zu_aload_n d_8125_106 rfl (zs_ra _) ?_
  obtain ⟨k1, h⟩ := h
  refine zg_8_127 rfl d_8125_107 k1 ?_
  refine zu_iload_n d_8125_110 rfl ?_
  obtain ⟨b2, e3, h⟩ := h
  refine zs_stk1 (zs_rfe e3) ?_
  obtain ⟨k4, h⟩ := h
  refine zu_bald (k := 1) d_8125_111 rfl (Or.inl rfl) k4 ?_
  refine zu_cmpge (t := 177) d_8125_112 rfl (fun c5 => ?_) (fun c5 => ?_)
  · have h := h.1 c5
    refine zu_aload_n d_8125_177 rfl (zs_ra _) ?_
    refine zu_aload_n d_8125_178 rfl (zs_rr _) ?_
    refine zu_iconst d_8125_179 zi_0 ?_
    obtain ⟨b6, e7, h⟩ := h
    refine zs_stk1 (zs_rfe e7) ?_
    obtain ⟨k8, h⟩ := h
    refine zu_lald (k := 3) d_8125_180 rfl rfl k8 ?_
    obtain ⟨k9, h⟩ := h
    refine zp_8_610 (v := (zs_j S b6 (0 : Int32).toNatClampNeg)) rfl d_8125_181 k1 k9 ?_
    generalize e11 : zs_sJ S 8081 p0 (zs_j S b6 (0 : Int32).toNatClampNeg) = S10
    have h := h S10 e11.symm
    have K12 : ∀ b, zs_K S10 b = zs_K S b := zs_Kt e11 (zs_KsJ _ _ _ _) (fun _ => rfl)
    refine zu_aload_n d_8125_184 rfl (zs_ra _) ?_
    refine zu_aload_n d_8125_185 rfl (zs_rr _) ?_
    refine zu_iconst d_8125_186 zi_1 ?_
    refine zs_stk1 (zs_rfe e7) ?_
    obtain ⟨k13, h⟩ := h
    refine zu_lald (k := 3) d_8125_187 rfl rfl (zs_Ak K12 k13) ?_
    refine zp_8_614 (v := (zs_j S10 b6 (1 : Int32).toNatClampNeg)) rfl d_8125_188 ((K12 _).trans k1) k9 ?_
    generalize e15 : zs_sJ S10 8082 p0 (zs_j S10 b6 (1 : Int32).toNatClampNeg) = S14
    have h := h S14 e15.symm
    have K16 : ∀ b, zs_K S14 b = zs_K S b := zs_Kt e15 (zs_KsJ _ _ _ _) K12
    exact (u_X9_enter_191 hB h).weak ⟨rfl, rfl, rfl, trivial⟩
  · have h := h.2 c5
    refine zu_aload_n d_8125_115 rfl (zs_ra _) ?_
    refine zu_aload_n d_8125_116 rfl (zs_ra _) ?_
    refine zg_8_136 rfl d_8125_117 k1 ?_
    refine zu_aload_n d_8125_120 rfl (zs_ra _) ?_
    refine zg_8_124 rfl d_8125_121 k1 ?_
    refine zu_iload_n d_8125_124 rfl ?_
    obtain ⟨b17, e18, h⟩ := h
    refine zs_stk1 (zs_rfe e18) ?_
    obtain ⟨k19, h⟩ := h
    refine zu_iald (k := 0) d_8125_125 rfl rfl k19 ?_
    refine zu_iload d_8125_126 rfl ?_
    refine zu_stk d_8125_128 rfl rfl ?_
    obtain ⟨b20, e21, h⟩ := h
    refine zs_stk1 (zs_rfe e21) ?_
    obtain ⟨k22, h⟩ := h
    refine zu_iald (k := 0) d_8125_129 rfl rfl k22 ?_
    refine zc_8_792 (x0 := (zs_i S b20 ((zs_i S b17 p2.toNatClampNeg) + p5).toNatClampNeg)) hB rfl k1 d_8125_130 (Nat.le_of_ble_eq_true rfl) h (fun v24 S23 h => ?_)
    refine zu_istore d_8125_133 (zs_lt zq_8125 rfl) ?_
    exact (u_X9_enter_135 hB h).weak ⟨rfl, rfl, rfl, rfl, rfl, trivial⟩
def w_X9_enter (X : zs_X) (d : Nat) (p0 : Nat) (p1 : Int32) (S : zs_T) (Q : zs_Q) : Prop :=
  (zs_K S p0 = some (.inl 8) ∧ ∃ b2, (zs_R S 8045 p0) = some b2 ∧ zs_A S b2 0 p1 ∧ zs_U X d 8125 15 [(0, .ref p0), (1, .int p1), (2, .int (zs_i S b2 p1.toNatClampNeg)), (3, va_rf (zs_R S 8127 p0)), (4, .int (0 : Int32))] [] S Q)
theorem u_X9_enter {σ : Nat → Nat} {n0 : Nat} {bf : ab_B} {d : Nat} {p0 : Nat} {p1 : Int32} {S : zs_T} {Q : zs_Q} (hB : zt_B bf) (hd : 1 ≤ d) (h : w_X9_enter (zx σ n0 bf) (d - 1) p0 p1 S Q) : zs_C (zx σ n0 bf) d 8125 [.ref p0, .int p1] S Q := by
  have hL : lv_args 0 [.ref p0, .int p1] = [(0, .ref p0), (1, .int p1)] := rfl
  refine zs_C.of1 (hB.2 8125 (by decide) (by decide)) hd (by rw [hL]; exact zs_sub_self _ (by exact ⟨rfl, rfl, trivial⟩)) ?_
  rw [hL]
  clear hL
  unfold w_X9_enter at h
  refine zu_aload_n d_8125_0 rfl (zs_ra _) ?_
  obtain ⟨k1, h⟩ := h
  refine zg_8_93 rfl d_8125_1 k1 ?_
  refine zu_iload_n d_8125_4 rfl ?_
  obtain ⟨b2, e3, h⟩ := h
  refine zs_stk1 (zs_rfe e3) ?_
  obtain ⟨k4, h⟩ := h
  refine zu_iald (k := 0) d_8125_5 rfl rfl k4 ?_
  refine zu_istore_n d_8125_6 (zs_lt zq_8125 rfl) ?_
  refine zu_aload_n d_8125_7 rfl (zs_ra _) ?_
  refine zg_8_275 rfl d_8125_8 k1 ?_
  refine zu_astore_n d_8125_11 (zs_rr _) (zs_lt zq_8125 rfl) ?_
  refine zu_iconst d_8125_12 zi_0 ?_
  refine zu_istore d_8125_13 (zs_lt zq_8125 rfl) ?_
  refine zs_U.weak (L1 := [(4, .int (0 : Int32)), (0, .ref p0), (1, .int p1), (2, .int (zs_i S b2 p1.toNatClampNeg)), (3, va_rf (zs_R S 8127 p0))]) ?_ ⟨rfl, zs_gp1 rfl (Or.inl rfl) rfl, zs_gp1 rfl (Or.inl rfl) rfl, zs_gp1 rfl (Or.inl rfl) rfl, zs_gp1 rfl (Or.inl (zs_cat _)) rfl, trivial⟩
  exact h.weak ⟨rfl, rfl, rfl, rfl, rfl, trivial⟩
/-! SchemaPascalModel.setDone()V -/
theorem zm_8126 {σ : Nat → Nat} {n0 : Nat} {bf : ab_B} : ab_code (zx σ n0 bf).1 8126 = prog_17_method_121_code := rfl
theorem zq_8126 {σ : Nat → Nat} {n0 : Nat} {bf : ab_B} : ab_maxL (zx σ n0 bf).1 8126 = 3 := rfl
theorem zr_8126 {σ : Nat → Nat} {n0 : Nat} {bf : ab_B} : ab_ret (zx σ n0 bf).1 8126 = (Option.none : Option Jvm.ClassFile.FieldType) := rfl
theorem d_8126_0 {σ : Nat → Nat} {n0 : Nat} {bf : ab_B} : decode (ab_code (zx σ n0 bf).1 8126) 0 = .ok (.aload_n 0, 1) := zd zm_8126 (by decide +kernel)
theorem d_8126_1 {σ : Nat → Nat} {n0 : Nat} {bf : ab_B} : decode (ab_code (zx σ n0 bf).1 8126) 1 = .ok (.getfield 444, 3) := zd zm_8126 (by decide +kernel)
theorem d_8126_4 {σ : Nat → Nat} {n0 : Nat} {bf : ab_B} : decode (ab_code (zx σ n0 bf).1 8126) 4 = .ok (.ifCond .le 4, 3) := zd zm_8126 (by decide +kernel)
theorem d_8126_7 {σ : Nat → Nat} {n0 : Nat} {bf : ab_B} : decode (ab_code (zx σ n0 bf).1 8126) 7 = .ok (.return_, 1) := zd zm_8126 (by decide +kernel)
theorem d_8126_8 {σ : Nat → Nat} {n0 : Nat} {bf : ab_B} : decode (ab_code (zx σ n0 bf).1 8126) 8 = .ok (.aload_n 0, 1) := zd zm_8126 (by decide +kernel)
theorem d_8126_9 {σ : Nat → Nat} {n0 : Nat} {bf : ab_B} : decode (ab_code (zx σ n0 bf).1 8126) 9 = .ok (.getfield 278, 3) := zd zm_8126 (by decide +kernel)
theorem d_8126_12 {σ : Nat → Nat} {n0 : Nat} {bf : ab_B} : decode (ab_code (zx σ n0 bf).1 8126) 12 = .ok (.aload_n 0, 1) := zd zm_8126 (by decide +kernel)
theorem d_8126_13 {σ : Nat → Nat} {n0 : Nat} {bf : ab_B} : decode (ab_code (zx σ n0 bf).1 8126) 13 = .ok (.getfield 831, 3) := zd zm_8126 (by decide +kernel)
theorem d_8126_16 {σ : Nat → Nat} {n0 : Nat} {bf : ab_B} : decode (ab_code (zx σ n0 bf).1 8126) 16 = .ok (.iconst 1, 1) := zd zm_8126 (by decide +kernel)
theorem d_8126_17 {σ : Nat → Nat} {n0 : Nat} {bf : ab_B} : decode (ab_code (zx σ n0 bf).1 8126) 17 = .ok (.isub, 1) := zd zm_8126 (by decide +kernel)
theorem d_8126_18 {σ : Nat → Nat} {n0 : Nat} {bf : ab_B} : decode (ab_code (zx σ n0 bf).1 8126) 18 = .ok (.iaload, 1) := zd zm_8126 (by decide +kernel)
theorem d_8126_19 {σ : Nat → Nat} {n0 : Nat} {bf : ab_B} : decode (ab_code (zx σ n0 bf).1 8126) 19 = .ok (.istore_n 1, 1) := zd zm_8126 (by decide +kernel)
theorem d_8126_20 {σ : Nat → Nat} {n0 : Nat} {bf : ab_B} : decode (ab_code (zx σ n0 bf).1 8126) 20 = .ok (.aload_n 0, 1) := zd zm_8126 (by decide +kernel)
theorem d_8126_21 {σ : Nat → Nat} {n0 : Nat} {bf : ab_B} : decode (ab_code (zx σ n0 bf).1 8126) 21 = .ok (.dup, 1) := zd zm_8126 (by decide +kernel)
theorem d_8126_22 {σ : Nat → Nat} {n0 : Nat} {bf : ab_B} : decode (ab_code (zx σ n0 bf).1 8126) 22 = .ok (.getfield 831, 3) := zd zm_8126 (by decide +kernel)
theorem d_8126_25 {σ : Nat → Nat} {n0 : Nat} {bf : ab_B} : decode (ab_code (zx σ n0 bf).1 8126) 25 = .ok (.iconst 1, 1) := zd zm_8126 (by decide +kernel)
theorem d_8126_26 {σ : Nat → Nat} {n0 : Nat} {bf : ab_B} : decode (ab_code (zx σ n0 bf).1 8126) 26 = .ok (.isub, 1) := zd zm_8126 (by decide +kernel)
theorem d_8126_27 {σ : Nat → Nat} {n0 : Nat} {bf : ab_B} : decode (ab_code (zx σ n0 bf).1 8126) 27 = .ok (.putfield 831, 3) := zd zm_8126 (by decide +kernel)
theorem d_8126_30 {σ : Nat → Nat} {n0 : Nat} {bf : ab_B} : decode (ab_code (zx σ n0 bf).1 8126) 30 = .ok (.aload_n 0, 1) := zd zm_8126 (by decide +kernel)
theorem d_8126_31 {σ : Nat → Nat} {n0 : Nat} {bf : ab_B} : decode (ab_code (zx σ n0 bf).1 8126) 31 = .ok (.iload_n 1, 1) := zd zm_8126 (by decide +kernel)
theorem d_8126_32 {σ : Nat → Nat} {n0 : Nat} {bf : ab_B} : decode (ab_code (zx σ n0 bf).1 8126) 32 = .ok (.invokevirtual 564, 3) := zd zm_8126 (by decide +kernel)
theorem d_8126_35 {σ : Nat → Nat} {n0 : Nat} {bf : ab_B} : decode (ab_code (zx σ n0 bf).1 8126) 35 = .ok (.ifCond .ne 9, 3) := zd zm_8126 (by decide +kernel)
theorem d_8126_38 {σ : Nat → Nat} {n0 : Nat} {bf : ab_B} : decode (ab_code (zx σ n0 bf).1 8126) 38 = .ok (.aload_n 0, 1) := zd zm_8126 (by decide +kernel)
theorem d_8126_39 {σ : Nat → Nat} {n0 : Nat} {bf : ab_B} : decode (ab_code (zx σ n0 bf).1 8126) 39 = .ok (.iconst 5, 1) := zd zm_8126 (by decide +kernel)
theorem d_8126_40 {σ : Nat → Nat} {n0 : Nat} {bf : ab_B} : decode (ab_code (zx σ n0 bf).1 8126) 40 = .ok (.invokevirtual 541, 3) := zd zm_8126 (by decide +kernel)
theorem d_8126_43 {σ : Nat → Nat} {n0 : Nat} {bf : ab_B} : decode (ab_code (zx σ n0 bf).1 8126) 43 = .ok (.return_, 1) := zd zm_8126 (by decide +kernel)
theorem d_8126_44 {σ : Nat → Nat} {n0 : Nat} {bf : ab_B} : decode (ab_code (zx σ n0 bf).1 8126) 44 = .ok (.aload_n 0, 1) := zd zm_8126 (by decide +kernel)
theorem d_8126_45 {σ : Nat → Nat} {n0 : Nat} {bf : ab_B} : decode (ab_code (zx σ n0 bf).1 8126) 45 = .ok (.bipush 6, 2) := zd zm_8126 (by decide +kernel)
theorem d_8126_47 {σ : Nat → Nat} {n0 : Nat} {bf : ab_B} : decode (ab_code (zx σ n0 bf).1 8126) 47 = .ok (.iload_n 1, 1) := zd zm_8126 (by decide +kernel)
theorem d_8126_48 {σ : Nat → Nat} {n0 : Nat} {bf : ab_B} : decode (ab_code (zx σ n0 bf).1 8126) 48 = .ok (.iconst 1, 1) := zd zm_8126 (by decide +kernel)
theorem d_8126_49 {σ : Nat → Nat} {n0 : Nat} {bf : ab_B} : decode (ab_code (zx σ n0 bf).1 8126) 49 = .ok (.aload_n 0, 1) := zd zm_8126 (by decide +kernel)
theorem d_8126_50 {σ : Nat → Nat} {n0 : Nat} {bf : ab_B} : decode (ab_code (zx σ n0 bf).1 8126) 50 = .ok (.getfield 109, 3) := zd zm_8126 (by decide +kernel)
theorem d_8126_53 {σ : Nat → Nat} {n0 : Nat} {bf : ab_B} : decode (ab_code (zx σ n0 bf).1 8126) 53 = .ok (.iload_n 1, 1) := zd zm_8126 (by decide +kernel)
theorem d_8126_54 {σ : Nat → Nat} {n0 : Nat} {bf : ab_B} : decode (ab_code (zx σ n0 bf).1 8126) 54 = .ok (.baload, 1) := zd zm_8126 (by decide +kernel)
theorem d_8126_55 {σ : Nat → Nat} {n0 : Nat} {bf : ab_B} : decode (ab_code (zx σ n0 bf).1 8126) 55 = .ok (.iadd, 1) := zd zm_8126 (by decide +kernel)
theorem d_8126_56 {σ : Nat → Nat} {n0 : Nat} {bf : ab_B} : decode (ab_code (zx σ n0 bf).1 8126) 56 = .ok (.invokevirtual 599, 3) := zd zm_8126 (by decide +kernel)
theorem d_8126_59 {σ : Nat → Nat} {n0 : Nat} {bf : ab_B} : decode (ab_code (zx σ n0 bf).1 8126) 59 = .ok (.istore_n 2, 1) := zd zm_8126 (by decide +kernel)
theorem d_8126_60 {σ : Nat → Nat} {n0 : Nat} {bf : ab_B} : decode (ab_code (zx σ n0 bf).1 8126) 60 = .ok (.aload_n 0, 1) := zd zm_8126 (by decide +kernel)
theorem d_8126_61 {σ : Nat → Nat} {n0 : Nat} {bf : ab_B} : decode (ab_code (zx σ n0 bf).1 8126) 61 = .ok (.getfield 105, 3) := zd zm_8126 (by decide +kernel)
theorem d_8126_64 {σ : Nat → Nat} {n0 : Nat} {bf : ab_B} : decode (ab_code (zx σ n0 bf).1 8126) 64 = .ok (.iload_n 2, 1) := zd zm_8126 (by decide +kernel)
theorem d_8126_65 {σ : Nat → Nat} {n0 : Nat} {bf : ab_B} : decode (ab_code (zx σ n0 bf).1 8126) 65 = .ok (.aload_n 0, 1) := zd zm_8126 (by decide +kernel)
theorem d_8126_66 {σ : Nat → Nat} {n0 : Nat} {bf : ab_B} : decode (ab_code (zx σ n0 bf).1 8126) 66 = .ok (.getfield 105, 3) := zd zm_8126 (by decide +kernel)
theorem d_8126_69 {σ : Nat → Nat} {n0 : Nat} {bf : ab_B} : decode (ab_code (zx σ n0 bf).1 8126) 69 = .ok (.iload_n 1, 1) := zd zm_8126 (by decide +kernel)
theorem d_8126_70 {σ : Nat → Nat} {n0 : Nat} {bf : ab_B} : decode (ab_code (zx σ n0 bf).1 8126) 70 = .ok (.baload, 1) := zd zm_8126 (by decide +kernel)
theorem d_8126_71 {σ : Nat → Nat} {n0 : Nat} {bf : ab_B} : decode (ab_code (zx σ n0 bf).1 8126) 71 = .ok (.bastore, 1) := zd zm_8126 (by decide +kernel)
theorem d_8126_72 {σ : Nat → Nat} {n0 : Nat} {bf : ab_B} : decode (ab_code (zx σ n0 bf).1 8126) 72 = .ok (.aload_n 0, 1) := zd zm_8126 (by decide +kernel)
theorem d_8126_73 {σ : Nat → Nat} {n0 : Nat} {bf : ab_B} : decode (ab_code (zx σ n0 bf).1 8126) 73 = .ok (.iload_n 2, 1) := zd zm_8126 (by decide +kernel)
theorem d_8126_74 {σ : Nat → Nat} {n0 : Nat} {bf : ab_B} : decode (ab_code (zx σ n0 bf).1 8126) 74 = .ok (.invokevirtual 890, 3) := zd zm_8126 (by decide +kernel)
theorem d_8126_77 {σ : Nat → Nat} {n0 : Nat} {bf : ab_B} : decode (ab_code (zx σ n0 bf).1 8126) 77 = .ok (.return_, 1) := zd zm_8126 (by decide +kernel)
def w_X9_setDone_72 (X : zs_X) (d : Nat) (p0 : Nat) (p2 : Int32) (S : zs_T) (Q : zs_Q) : Prop :=
  (zs_K S p0 = some (.inl 8) ∧ zs_C X d 8114 [.ref p0, .int p2] S (zs_kV (fun S2 => (Q (.returned none) S2)) Q))
theorem u_X9_setDone_72 {σ : Nat → Nat} {n0 : Nat} {bf : ab_B} {d : Nat} {p0 : Nat} {p2 : Int32} {S : zs_T} {Q : zs_Q} (hB : zt_B bf) (h : w_X9_setDone_72 (zx σ n0 bf) d p0 p2 S Q) : zs_U (zx σ n0 bf) d 8126 72 [(0, .ref p0), (2, .int p2)] [] S Q := by
  unfold w_X9_setDone_72 at h
  refine zu_aload_n d_8126_72 rfl (zs_ra _) ?_
  refine zu_iload_n d_8126_73 rfl ?_
  obtain ⟨k1, h⟩ := h
  refine zc_8_890 (x0 := p2) hB rfl k1 d_8126_74 (Nat.le_of_ble_eq_true rfl) h (fun S2 h => ?_)
  exact zu_vret d_8126_77 zr_8126 h
def w_X9_setDone_30 (X : zs_X) (d : Nat) (p0 : Nat) (p1 : Int32) (S : zs_T) (Q : zs_Q) : Prop :=
  (zs_K S p0 = some (.inl 8) ∧ zs_C X d 8036 [.ref p0, .int p1] S (zs_kI (fun v3 S2 => (((¬ v3 = 0 → (zs_K S2 p0 = some (.inl 8) ∧ ∃ b6, (zs_R S2 8050 p0) = some b6 ∧ zs_A S2 b6 1 p1 ∧ zs_C X d 8009 [.ref p0, .int (6 : Int32), .int p1, .int ((1 : Int32) + (zs_i S2 b6 p1.toNatClampNeg))] S2 (zs_kI (fun v10 S9 => (zs_K S9 p0 = some (.inl 8) ∧ ∃ b12, (zs_R S9 8049 p0) = some b12 ∧ zs_A S9 b12 2 p1 ∧ zs_A S9 b12 2 v10 ∧ ab_n0 X.1 ≤ b12 ∧ ∀ S17, S17 = zs_si S9 b12 v10.toNatClampNeg (vp_nar .boolean (zs_i S9 b12 p1.toNatClampNeg)) → w_X9_setDone_72 X d p0 v10 S17 Q)) Q))) ∧ (¬ (¬ v3 = 0) → (zs_K S2 p0 = some (.inl 8) ∧ zs_C X d 8027 [.ref p0, .int (5 : Int32)] S2 (zs_kV (fun S21 => (Q (.returned none) S21)) Q)))))) Q))
theorem u_X9_setDone_30 {σ : Nat → Nat} {n0 : Nat} {bf : ab_B} {d : Nat} {p0 : Nat} {p1 : Int32} {S : zs_T} {Q : zs_Q} (hB : zt_B bf) (h : w_X9_setDone_30 (zx σ n0 bf) d p0 p1 S Q) : zs_U (zx σ n0 bf) d 8126 30 [(0, .ref p0), (1, .int p1)] [] S Q := by
  unfold w_X9_setDone_30 at h
  refine zu_aload_n d_8126_30 rfl (zs_ra _) ?_
  refine zu_iload_n d_8126_31 rfl ?_
  obtain ⟨k1, h⟩ := h
  refine zc_8_564 (x0 := p1) hB rfl k1 d_8126_32 (Nat.le_of_ble_eq_true rfl) h (fun v3 S2 h => ?_)
  refine zu_ifne (t := 44) d_8126_35 rfl (fun c4 => ?_) (fun c4 => ?_)
  · have h := h.1 c4
    refine zu_aload_n d_8126_44 rfl (zs_ra _) ?_
    refine zu_bipush d_8126_45 zj_6 ?_
    refine zu_iload_n d_8126_47 rfl ?_
    refine zu_iconst d_8126_48 zi_1 ?_
    refine zu_aload_n d_8126_49 rfl (zs_ra _) ?_
    obtain ⟨k5, h⟩ := h
    refine zg_8_109 rfl d_8126_50 k5 ?_
    refine zu_iload_n d_8126_53 rfl ?_
    obtain ⟨b6, e7, h⟩ := h
    refine zs_stk1 (zs_rfe e7) ?_
    obtain ⟨k8, h⟩ := h
    refine zu_bald (k := 1) d_8126_54 rfl (Or.inl rfl) k8 ?_
    refine zu_stk d_8126_55 rfl rfl ?_
    refine zc_8_599 (x0 := (6 : Int32)) (x1 := p1) (x2 := ((1 : Int32) + (zs_i S2 b6 p1.toNatClampNeg))) hB rfl k5 d_8126_56 (Nat.le_of_ble_eq_true rfl) h (fun v10 S9 h => ?_)
    refine zu_istore_n d_8126_59 (zs_lt zq_8126 rfl) ?_
    refine zu_aload_n d_8126_60 rfl (zs_ra _) ?_
    obtain ⟨k11, h⟩ := h
    refine zg_8_105 rfl d_8126_61 k11 ?_
    refine zu_iload_n d_8126_64 rfl ?_
    refine zu_aload_n d_8126_65 rfl (zs_ra _) ?_
    refine zg_8_105 rfl d_8126_66 k11 ?_
    refine zu_iload_n d_8126_69 rfl ?_
    obtain ⟨b12, e13, h⟩ := h
    refine zs_stk1 (zs_rfe e13) ?_
    obtain ⟨k14, h⟩ := h
    refine zu_bald (k := 2) d_8126_70 rfl (Or.inr rfl) k14 ?_
    refine zs_stk2 (zs_rfe e13) ?_
    obtain ⟨k15, h⟩ := h
    obtain ⟨k16, h⟩ := h
    refine zu_bast_bool (k := 2) d_8126_71 rfl rfl k16 k15 ?_
    generalize e18 : zs_si S9 b12 v10.toNatClampNeg (vp_nar .boolean (zs_i S9 b12 p1.toNatClampNeg)) = S17
    have h := h S17 e18.symm
    have K19 : ∀ b, zs_K S17 b = zs_K S9 b := zs_Kt e18 (zs_Ksi _ _ _ _) (fun _ => rfl)
    exact (u_X9_setDone_72 hB h).weak ⟨rfl, rfl, trivial⟩
  · have h := h.2 c4
    refine zu_aload_n d_8126_38 rfl (zs_ra _) ?_
    refine zu_iconst d_8126_39 zi_5 ?_
    obtain ⟨k20, h⟩ := h
    refine zc_8_541 (x0 := (5 : Int32)) hB rfl k20 d_8126_40 (Nat.le_of_ble_eq_true rfl) h (fun S21 h => ?_)
    exact zu_vret d_8126_43 zr_8126 h
def w_X9_setDone (X : zs_X) (d : Nat) (p0 : Nat) (S : zs_T) (Q : zs_Q) : Prop :=
  (zs_K S p0 = some (.inl 8) ∧ (((zs_I S 8010 p0) ≤ 0 → (∃ b3, (zs_R S 8128 p0) = some b3 ∧ zs_A S b3 0 ((zs_I S 8129 p0) - (1 : Int32)) ∧ ab_n0 X.1 ≤ p0 ∧ ∀ S7, S7 = zs_sI S 8129 p0 ((zs_I S 8129 p0) - (1 : Int32)) → w_X9_setDone_30 X d p0 (zs_i S b3 ((zs_I S 8129 p0) - (1 : Int32)).toNatClampNeg) S7 Q)) ∧ (¬ ((zs_I S 8010 p0) ≤ 0) → (Q (.returned none) S))))
theorem u_X9_setDone {σ : Nat → Nat} {n0 : Nat} {bf : ab_B} {d : Nat} {p0 : Nat} {S : zs_T} {Q : zs_Q} (hB : zt_B bf) (hd : 1 ≤ d) (h : w_X9_setDone (zx σ n0 bf) (d - 1) p0 S Q) : zs_C (zx σ n0 bf) d 8126 [.ref p0] S Q := by
  have hL : lv_args 0 [.ref p0] = [(0, .ref p0)] := rfl
  refine zs_C.of1 (hB.2 8126 (by decide) (by decide)) hd (by rw [hL]; exact zs_sub_self _ (by exact ⟨rfl, trivial⟩)) ?_
  rw [hL]
  clear hL
  unfold w_X9_setDone at h
  refine zu_aload_n d_8126_0 rfl (zs_ra _) ?_
  obtain ⟨k1, h⟩ := h
  refine zg_8_444 rfl d_8126_1 k1 ?_
  refine zu_ifle (t := 8) d_8126_4 rfl (fun c2 => ?_) (fun c2 => ?_)
  · have h := h.1 c2
    refine zu_aload_n d_8126_8 rfl (zs_ra _) ?_
    refine zg_8_278 rfl d_8126_9 k1 ?_
    refine zu_aload_n d_8126_12 rfl (zs_ra _) ?_
    refine zg_8_831 rfl d_8126_13 k1 ?_
    refine zu_iconst d_8126_16 zi_1 ?_
    refine zu_stk d_8126_17 rfl rfl ?_
    obtain ⟨b3, e4, h⟩ := h
    refine zs_stk1 (zs_rfe e4) ?_
    obtain ⟨k5, h⟩ := h
    refine zu_iald (k := 0) d_8126_18 rfl rfl k5 ?_
    refine zu_istore_n d_8126_19 (zs_lt zq_8126 rfl) ?_
    refine zu_aload_n d_8126_20 rfl (zs_ra _) ?_
    refine zu_dup d_8126_21 rfl ?_
    refine zg_8_831 rfl d_8126_22 k1 ?_
    refine zu_iconst d_8126_25 zi_1 ?_
    refine zu_stk d_8126_26 rfl rfl ?_
    obtain ⟨k6, h⟩ := h
    refine zp_8_831 (v := ((zs_I S 8129 p0) - (1 : Int32))) rfl d_8126_27 k1 k6 ?_
    generalize e8 : zs_sI S 8129 p0 ((zs_I S 8129 p0) - (1 : Int32)) = S7
    have h := h S7 e8.symm
    have K9 : ∀ b, zs_K S7 b = zs_K S b := zs_Kt e8 (zs_KsI _ _ _ _) (fun _ => rfl)
    exact (u_X9_setDone_30 hB h).weak ⟨rfl, rfl, trivial⟩
  · have h := h.2 c2
    exact zu_vret d_8126_7 zr_8126 h
/-! SchemaPascalModel.stringDone()V -/
theorem zm_8127 {σ : Nat → Nat} {n0 : Nat} {bf : ab_B} : ab_code (zx σ n0 bf).1 8127 = prog_17_method_122_code := rfl
theorem zq_8127 {σ : Nat → Nat} {n0 : Nat} {bf : ab_B} : ab_maxL (zx σ n0 bf).1 8127 = 2 := rfl
theorem zr_8127 {σ : Nat → Nat} {n0 : Nat} {bf : ab_B} : ab_ret (zx σ n0 bf).1 8127 = (Option.none : Option Jvm.ClassFile.FieldType) := rfl
theorem d_8127_0 {σ : Nat → Nat} {n0 : Nat} {bf : ab_B} : decode (ab_code (zx σ n0 bf).1 8127) 0 = .ok (.aload_n 0, 1) := zd zm_8127 (by decide +kernel)
theorem d_8127_1 {σ : Nat → Nat} {n0 : Nat} {bf : ab_B} : decode (ab_code (zx σ n0 bf).1 8127) 1 = .ok (.iconst 1, 1) := zd zm_8127 (by decide +kernel)
theorem d_8127_2 {σ : Nat → Nat} {n0 : Nat} {bf : ab_B} : decode (ab_code (zx σ n0 bf).1 8127) 2 = .ok (.invokevirtual 884, 3) := zd zm_8127 (by decide +kernel)
theorem d_8127_5 {σ : Nat → Nat} {n0 : Nat} {bf : ab_B} : decode (ab_code (zx σ n0 bf).1 8127) 5 = .ok (.ifCond .ne 4, 3) := zd zm_8127 (by decide +kernel)
theorem d_8127_8 {σ : Nat → Nat} {n0 : Nat} {bf : ab_B} : decode (ab_code (zx σ n0 bf).1 8127) 8 = .ok (.return_, 1) := zd zm_8127 (by decide +kernel)
theorem d_8127_9 {σ : Nat → Nat} {n0 : Nat} {bf : ab_B} : decode (ab_code (zx σ n0 bf).1 8127) 9 = .ok (.aload_n 0, 1) := zd zm_8127 (by decide +kernel)
theorem d_8127_10 {σ : Nat → Nat} {n0 : Nat} {bf : ab_B} : decode (ab_code (zx σ n0 bf).1 8127) 10 = .ok (.bipush 7, 2) := zd zm_8127 (by decide +kernel)
theorem d_8127_12 {σ : Nat → Nat} {n0 : Nat} {bf : ab_B} : decode (ab_code (zx σ n0 bf).1 8127) 12 = .ok (.iconst 0, 1) := zd zm_8127 (by decide +kernel)
theorem d_8127_13 {σ : Nat → Nat} {n0 : Nat} {bf : ab_B} : decode (ab_code (zx σ n0 bf).1 8127) 13 = .ok (.iconst 1, 1) := zd zm_8127 (by decide +kernel)
theorem d_8127_14 {σ : Nat → Nat} {n0 : Nat} {bf : ab_B} : decode (ab_code (zx σ n0 bf).1 8127) 14 = .ok (.invokevirtual 599, 3) := zd zm_8127 (by decide +kernel)
theorem d_8127_17 {σ : Nat → Nat} {n0 : Nat} {bf : ab_B} : decode (ab_code (zx σ n0 bf).1 8127) 17 = .ok (.istore_n 1, 1) := zd zm_8127 (by decide +kernel)
theorem d_8127_18 {σ : Nat → Nat} {n0 : Nat} {bf : ab_B} : decode (ab_code (zx σ n0 bf).1 8127) 18 = .ok (.aload_n 0, 1) := zd zm_8127 (by decide +kernel)
theorem d_8127_19 {σ : Nat → Nat} {n0 : Nat} {bf : ab_B} : decode (ab_code (zx σ n0 bf).1 8127) 19 = .ok (.getfield 105, 3) := zd zm_8127 (by decide +kernel)
theorem d_8127_22 {σ : Nat → Nat} {n0 : Nat} {bf : ab_B} : decode (ab_code (zx σ n0 bf).1 8127) 22 = .ok (.iload_n 1, 1) := zd zm_8127 (by decide +kernel)
theorem d_8127_23 {σ : Nat → Nat} {n0 : Nat} {bf : ab_B} : decode (ab_code (zx σ n0 bf).1 8127) 23 = .ok (.aload_n 0, 1) := zd zm_8127 (by decide +kernel)
theorem d_8127_24 {σ : Nat → Nat} {n0 : Nat} {bf : ab_B} : decode (ab_code (zx σ n0 bf).1 8127) 24 = .ok (.invokevirtual 877, 3) := zd zm_8127 (by decide +kernel)
theorem d_8127_27 {σ : Nat → Nat} {n0 : Nat} {bf : ab_B} : decode (ab_code (zx σ n0 bf).1 8127) 27 = .ok (.bastore, 1) := zd zm_8127 (by decide +kernel)
theorem d_8127_28 {σ : Nat → Nat} {n0 : Nat} {bf : ab_B} : decode (ab_code (zx σ n0 bf).1 8127) 28 = .ok (.aload_n 0, 1) := zd zm_8127 (by decide +kernel)
theorem d_8127_29 {σ : Nat → Nat} {n0 : Nat} {bf : ab_B} : decode (ab_code (zx σ n0 bf).1 8127) 29 = .ok (.getfield 105, 3) := zd zm_8127 (by decide +kernel)
theorem d_8127_32 {σ : Nat → Nat} {n0 : Nat} {bf : ab_B} : decode (ab_code (zx σ n0 bf).1 8127) 32 = .ok (.iload_n 1, 1) := zd zm_8127 (by decide +kernel)
theorem d_8127_33 {σ : Nat → Nat} {n0 : Nat} {bf : ab_B} : decode (ab_code (zx σ n0 bf).1 8127) 33 = .ok (.baload, 1) := zd zm_8127 (by decide +kernel)
theorem d_8127_34 {σ : Nat → Nat} {n0 : Nat} {bf : ab_B} : decode (ab_code (zx σ n0 bf).1 8127) 34 = .ok (.ifCond .eq 26, 3) := zd zm_8127 (by decide +kernel)
theorem d_8127_37 {σ : Nat → Nat} {n0 : Nat} {bf : ab_B} : decode (ab_code (zx σ n0 bf).1 8127) 37 = .ok (.aload_n 0, 1) := zd zm_8127 (by decide +kernel)
theorem d_8127_38 {σ : Nat → Nat} {n0 : Nat} {bf : ab_B} : decode (ab_code (zx σ n0 bf).1 8127) 38 = .ok (.getfield 99, 3) := zd zm_8127 (by decide +kernel)
theorem d_8127_41 {σ : Nat → Nat} {n0 : Nat} {bf : ab_B} : decode (ab_code (zx σ n0 bf).1 8127) 41 = .ok (.iload_n 1, 1) := zd zm_8127 (by decide +kernel)
theorem d_8127_42 {σ : Nat → Nat} {n0 : Nat} {bf : ab_B} : decode (ab_code (zx σ n0 bf).1 8127) 42 = .ok (.aload_n 0, 1) := zd zm_8127 (by decide +kernel)
theorem d_8127_43 {σ : Nat → Nat} {n0 : Nat} {bf : ab_B} : decode (ab_code (zx σ n0 bf).1 8127) 43 = .ok (.invokevirtual 777, 3) := zd zm_8127 (by decide +kernel)
theorem d_8127_46 {σ : Nat → Nat} {n0 : Nat} {bf : ab_B} : decode (ab_code (zx σ n0 bf).1 8127) 46 = .ok (.iastore, 1) := zd zm_8127 (by decide +kernel)
theorem d_8127_47 {σ : Nat → Nat} {n0 : Nat} {bf : ab_B} : decode (ab_code (zx σ n0 bf).1 8127) 47 = .ok (.aload_n 0, 1) := zd zm_8127 (by decide +kernel)
theorem d_8127_48 {σ : Nat → Nat} {n0 : Nat} {bf : ab_B} : decode (ab_code (zx σ n0 bf).1 8127) 48 = .ok (.dup, 1) := zd zm_8127 (by decide +kernel)
theorem d_8127_49 {σ : Nat → Nat} {n0 : Nat} {bf : ab_B} : decode (ab_code (zx σ n0 bf).1 8127) 49 = .ok (.getfield 653, 3) := zd zm_8127 (by decide +kernel)
theorem d_8127_52 {σ : Nat → Nat} {n0 : Nat} {bf : ab_B} : decode (ab_code (zx σ n0 bf).1 8127) 52 = .ok (.iconst 1, 1) := zd zm_8127 (by decide +kernel)
theorem d_8127_53 {σ : Nat → Nat} {n0 : Nat} {bf : ab_B} : decode (ab_code (zx σ n0 bf).1 8127) 53 = .ok (.isub, 1) := zd zm_8127 (by decide +kernel)
theorem d_8127_54 {σ : Nat → Nat} {n0 : Nat} {bf : ab_B} : decode (ab_code (zx σ n0 bf).1 8127) 54 = .ok (.putfield 653, 3) := zd zm_8127 (by decide +kernel)
theorem d_8127_57 {σ : Nat → Nat} {n0 : Nat} {bf : ab_B} : decode (ab_code (zx σ n0 bf).1 8127) 57 = .ok (.goto 14, 3) := zd zm_8127 (by decide +kernel)
theorem d_8127_60 {σ : Nat → Nat} {n0 : Nat} {bf : ab_B} : decode (ab_code (zx σ n0 bf).1 8127) 60 = .ok (.aload_n 0, 1) := zd zm_8127 (by decide +kernel)
theorem d_8127_61 {σ : Nat → Nat} {n0 : Nat} {bf : ab_B} : decode (ab_code (zx σ n0 bf).1 8127) 61 = .ok (.getfield 99, 3) := zd zm_8127 (by decide +kernel)
theorem d_8127_64 {σ : Nat → Nat} {n0 : Nat} {bf : ab_B} : decode (ab_code (zx σ n0 bf).1 8127) 64 = .ok (.iload_n 1, 1) := zd zm_8127 (by decide +kernel)
theorem d_8127_65 {σ : Nat → Nat} {n0 : Nat} {bf : ab_B} : decode (ab_code (zx σ n0 bf).1 8127) 65 = .ok (.aload_n 0, 1) := zd zm_8127 (by decide +kernel)
theorem d_8127_66 {σ : Nat → Nat} {n0 : Nat} {bf : ab_B} : decode (ab_code (zx σ n0 bf).1 8127) 66 = .ok (.invokevirtual 880, 3) := zd zm_8127 (by decide +kernel)
theorem d_8127_69 {σ : Nat → Nat} {n0 : Nat} {bf : ab_B} : decode (ab_code (zx σ n0 bf).1 8127) 69 = .ok (.l2i, 1) := zd zm_8127 (by decide +kernel)
theorem d_8127_70 {σ : Nat → Nat} {n0 : Nat} {bf : ab_B} : decode (ab_code (zx σ n0 bf).1 8127) 70 = .ok (.iastore, 1) := zd zm_8127 (by decide +kernel)
theorem d_8127_71 {σ : Nat → Nat} {n0 : Nat} {bf : ab_B} : decode (ab_code (zx σ n0 bf).1 8127) 71 = .ok (.aload_n 0, 1) := zd zm_8127 (by decide +kernel)
theorem d_8127_72 {σ : Nat → Nat} {n0 : Nat} {bf : ab_B} : decode (ab_code (zx σ n0 bf).1 8127) 72 = .ok (.bipush 9, 2) := zd zm_8127 (by decide +kernel)
theorem d_8127_74 {σ : Nat → Nat} {n0 : Nat} {bf : ab_B} : decode (ab_code (zx σ n0 bf).1 8127) 74 = .ok (.invokevirtual 746, 3) := zd zm_8127 (by decide +kernel)
theorem d_8127_77 {σ : Nat → Nat} {n0 : Nat} {bf : ab_B} : decode (ab_code (zx σ n0 bf).1 8127) 77 = .ok (.aload_n 0, 1) := zd zm_8127 (by decide +kernel)
theorem d_8127_78 {σ : Nat → Nat} {n0 : Nat} {bf : ab_B} : decode (ab_code (zx σ n0 bf).1 8127) 78 = .ok (.getfield 444, 3) := zd zm_8127 (by decide +kernel)
theorem d_8127_81 {σ : Nat → Nat} {n0 : Nat} {bf : ab_B} : decode (ab_code (zx σ n0 bf).1 8127) 81 = .ok (.ifCond .ne 8, 3) := zd zm_8127 (by decide +kernel)
theorem d_8127_84 {σ : Nat → Nat} {n0 : Nat} {bf : ab_B} : decode (ab_code (zx σ n0 bf).1 8127) 84 = .ok (.aload_n 0, 1) := zd zm_8127 (by decide +kernel)
theorem d_8127_85 {σ : Nat → Nat} {n0 : Nat} {bf : ab_B} : decode (ab_code (zx σ n0 bf).1 8127) 85 = .ok (.iload_n 1, 1) := zd zm_8127 (by decide +kernel)
theorem d_8127_86 {σ : Nat → Nat} {n0 : Nat} {bf : ab_B} : decode (ab_code (zx σ n0 bf).1 8127) 86 = .ok (.invokevirtual 890, 3) := zd zm_8127 (by decide +kernel)
theorem d_8127_89 {σ : Nat → Nat} {n0 : Nat} {bf : ab_B} : decode (ab_code (zx σ n0 bf).1 8127) 89 = .ok (.return_, 1) := zd zm_8127 (by decide +kernel)
def w_X9_stringDone_71 (X : zs_X) (d : Nat) (p0 : Nat) (p1 : Int32) (S : zs_T) (Q : zs_Q) : Prop :=
  (zs_K S p0 = some (.inl 8) ∧ zs_C X d 8028 [.ref p0, .int (9 : Int32)] S (zs_kV (fun S2 => (zs_K S2 p0 = some (.inl 8) ∧ ((¬ (zs_I S2 8010 p0) = 0 → (Q (.returned none) S2)) ∧ (¬ (¬ (zs_I S2 8010 p0) = 0) → (zs_C X d 8114 [.ref p0, .int p1] S2 (zs_kV (fun S6 => (Q (.returned none) S6)) Q)))))) Q))
theorem u_X9_stringDone_71 {σ : Nat → Nat} {n0 : Nat} {bf : ab_B} {d : Nat} {p0 : Nat} {p1 : Int32} {S : zs_T} {Q : zs_Q} (hB : zt_B bf) (h : w_X9_stringDone_71 (zx σ n0 bf) d p0 p1 S Q) : zs_U (zx σ n0 bf) d 8127 71 [(0, .ref p0), (1, .int p1)] [] S Q := by
  unfold w_X9_stringDone_71 at h
  refine zu_aload_n d_8127_71 rfl (zs_ra _) ?_
  refine zu_bipush d_8127_72 zj_9 ?_
  obtain ⟨k1, h⟩ := h
  refine zc_8_746 (x0 := (9 : Int32)) hB rfl k1 d_8127_74 (Nat.le_of_ble_eq_true rfl) h (fun S2 h => ?_)
  refine zu_aload_n d_8127_77 rfl (zs_ra _) ?_
  obtain ⟨k4, h⟩ := h
  refine zg_8_444 rfl d_8127_78 k4 ?_
  refine zu_ifne (t := 89) d_8127_81 rfl (fun c5 => ?_) (fun c5 => ?_)
  · have h := h.1 c5
    exact zu_vret d_8127_89 zr_8127 h
  · have h := h.2 c5
    refine zu_aload_n d_8127_84 rfl (zs_ra _) ?_
    refine zu_iload_n d_8127_85 rfl ?_
    refine zc_8_890 (x0 := p1) hB rfl k4 d_8127_86 (Nat.le_of_ble_eq_true rfl) h (fun S6 h => ?_)
    exact zu_vret d_8127_89 zr_8127 h
def w_X9_stringDone_57 (X : zs_X) (d : Nat) (p0 : Nat) (p1 : Int32) (S : zs_T) (Q : zs_Q) : Prop :=
  (w_X9_stringDone_71 X d p0 p1 S Q)
theorem u_X9_stringDone_57 {σ : Nat → Nat} {n0 : Nat} {bf : ab_B} {d : Nat} {p0 : Nat} {p1 : Int32} {S : zs_T} {Q : zs_Q} (hB : zt_B bf) (h : w_X9_stringDone_57 (zx σ n0 bf) d p0 p1 S Q) : zs_U (zx σ n0 bf) d 8127 57 [(0, .ref p0), (1, .int p1)] [] S Q := by
  unfold w_X9_stringDone_57 at h
  refine zu_goto (t := 71) d_8127_57 rfl ?_
  exact (u_X9_stringDone_71 hB h).weak ⟨rfl, rfl, trivial⟩
def w_X9_stringDone_28 (X : zs_X) (d : Nat) (p0 : Nat) (p1 : Int32) (S : zs_T) (Q : zs_Q) : Prop :=
  (zs_K S p0 = some (.inl 8) ∧ ∃ b2, (zs_R S 8049 p0) = some b2 ∧ zs_A S b2 2 p1 ∧ (((zs_i S b2 p1.toNatClampNeg) = 0 → (zs_C X d 8102 [.ref p0] S (zs_kJ (fun v7 S6 => (∃ b8, (zs_R S 8047 p0) = some b8 ∧ zs_A S6 b8 0 p1 ∧ ab_n0 X.1 ≤ b8 ∧ ∀ S12, S12 = zs_si S6 b8 p1.toNatClampNeg ((v7).toInt32) → w_X9_stringDone_71 X d p0 p1 S12 Q)) Q))) ∧ (¬ ((zs_i S b2 p1.toNatClampNeg) = 0) → (zs_C X d 8103 [.ref p0] S (zs_kI (fun v16 S15 => (∃ b17, (zs_R S 8047 p0) = some b17 ∧ zs_A S15 b17 0 p1 ∧ ab_n0 X.1 ≤ b17 ∧ ∀ S21, S21 = zs_si S15 b17 p1.toNatClampNeg v16 → zs_K S15 p0 = some (.inl 8) ∧ ab_n0 X.1 ≤ p0 ∧ ∀ S26, S26 = zs_sI S21 8097 p0 ((zs_I S21 8097 p0) - (1 : Int32)) → w_X9_stringDone_57 X d p0 p1 S26 Q)) Q)))))
theorem u_X9_stringDone_28 {σ : Nat → Nat} {n0 : Nat} {bf : ab_B} {d : Nat} {p0 : Nat} {p1 : Int32} {S : zs_T} {Q : zs_Q} (hB : zt_B bf) (h : w_X9_stringDone_28 (zx σ n0 bf) d p0 p1 S Q) : zs_U (zx σ n0 bf) d 8127 28 [(0, .ref p0), (1, .int p1)] [] S Q := by
  unfold w_X9_stringDone_28 at h
  refine zu_aload_n d_8127_28 rfl (zs_ra _) ?_
  obtain ⟨k1, h⟩ := h
  refine zg_8_105 rfl d_8127_29 k1 ?_
  refine zu_iload_n d_8127_32 rfl ?_
  obtain ⟨b2, e3, h⟩ := h
  refine zs_stk1 (zs_rfe e3) ?_
  obtain ⟨k4, h⟩ := h
  refine zu_bald (k := 2) d_8127_33 rfl (Or.inr rfl) k4 ?_
  refine zu_ifeq (t := 60) d_8127_34 rfl (fun c5 => ?_) (fun c5 => ?_)
  · have h := h.1 c5
    refine zu_aload_n d_8127_60 rfl (zs_ra _) ?_
    refine zg_8_99 rfl d_8127_61 k1 ?_
    refine zu_iload_n d_8127_64 rfl ?_
    refine zu_aload_n d_8127_65 rfl (zs_ra _) ?_
    refine zc_8_880  hB rfl k1 d_8127_66 (by simp only [List.map_cons, List.map_nil, List.sum_cons, List.sum_nil, zs_cat, zs_cI, zs_cJ, zs_cA]; exact Nat.le_of_ble_eq_true rfl) h (fun v7 S6 h => ?_)
    refine zu_stk d_8127_69 rfl rfl ?_
    obtain ⟨b8, e9, h⟩ := h
    refine zs_stk2 (zs_rfe e9) ?_
    obtain ⟨k10, h⟩ := h
    obtain ⟨k11, h⟩ := h
    refine zu_iast (k := 0) d_8127_70 rfl rfl k11 k10 ?_
    generalize e13 : zs_si S6 b8 p1.toNatClampNeg ((v7).toInt32) = S12
    have h := h S12 e13.symm
    have K14 : ∀ b, zs_K S12 b = zs_K S6 b := zs_Kt e13 (zs_Ksi _ _ _ _) (fun _ => rfl)
    exact (u_X9_stringDone_71 hB h).weak ⟨rfl, rfl, trivial⟩
  · have h := h.2 c5
    refine zu_aload_n d_8127_37 rfl (zs_ra _) ?_
    refine zg_8_99 rfl d_8127_38 k1 ?_
    refine zu_iload_n d_8127_41 rfl ?_
    refine zu_aload_n d_8127_42 rfl (zs_ra _) ?_
    refine zc_8_777  hB rfl k1 d_8127_43 (by simp only [List.map_cons, List.map_nil, List.sum_cons, List.sum_nil, zs_cat, zs_cI, zs_cJ, zs_cA]; exact Nat.le_of_ble_eq_true rfl) h (fun v16 S15 h => ?_)
    obtain ⟨b17, e18, h⟩ := h
    refine zs_stk2 (zs_rfe e18) ?_
    obtain ⟨k19, h⟩ := h
    obtain ⟨k20, h⟩ := h
    refine zu_iast (k := 0) d_8127_46 rfl rfl k20 k19 ?_
    generalize e22 : zs_si S15 b17 p1.toNatClampNeg v16 = S21
    have h := h S21 e22.symm
    have K23 : ∀ b, zs_K S21 b = zs_K S15 b := zs_Kt e22 (zs_Ksi _ _ _ _) (fun _ => rfl)
    refine zu_aload_n d_8127_47 rfl (zs_ra _) ?_
    refine zu_dup d_8127_48 rfl ?_
    obtain ⟨k24, h⟩ := h
    refine zg_8_653 rfl d_8127_49 ((K23 _).trans k24) ?_
    refine zu_iconst d_8127_52 zi_1 ?_
    refine zu_stk d_8127_53 rfl rfl ?_
    obtain ⟨k25, h⟩ := h
    refine zp_8_653 (v := ((zs_I S21 8097 p0) - (1 : Int32))) rfl d_8127_54 ((K23 _).trans k24) k25 ?_
    generalize e27 : zs_sI S21 8097 p0 ((zs_I S21 8097 p0) - (1 : Int32)) = S26
    have h := h S26 e27.symm
    have K28 : ∀ b, zs_K S26 b = zs_K S15 b := zs_Kt e27 (zs_KsI _ _ _ _) K23
    exact (u_X9_stringDone_57 hB h).weak ⟨rfl, rfl, trivial⟩
def w_X9_stringDone (X : zs_X) (d : Nat) (p0 : Nat) (S : zs_T) (Q : zs_Q) : Prop :=
  (zs_K S p0 = some (.inl 8) ∧ zs_C X d 8100 [.ref p0, .int (1 : Int32)] S (zs_kI (fun v3 S2 => (((¬ v3 = 0 → (zs_K S2 p0 = some (.inl 8) ∧ zs_C X d 8009 [.ref p0, .int (7 : Int32), .int (0 : Int32), .int (1 : Int32)] S2 (zs_kI (fun v7 S6 => (zs_K S6 p0 = some (.inl 8) ∧ zs_C X d 8101 [.ref p0] S6 (zs_kI (fun v10 S9 => (∃ b11, (zs_R S6 8049 p0) = some b11 ∧ zs_A S9 b11 2 v7 ∧ ab_n0 X.1 ≤ b11 ∧ ∀ S15, S15 = zs_si S9 b11 v7.toNatClampNeg (vp_nar .boolean v10) → w_X9_stringDone_28 X d p0 v7 S15 Q)) Q))) Q))) ∧ (¬ (¬ v3 = 0) → (Q (.returned none) S2))))) Q))
theorem u_X9_stringDone {σ : Nat → Nat} {n0 : Nat} {bf : ab_B} {d : Nat} {p0 : Nat} {S : zs_T} {Q : zs_Q} (hB : zt_B bf) (hd : 1 ≤ d) (h : w_X9_stringDone (zx σ n0 bf) (d - 1) p0 S Q) : zs_C (zx σ n0 bf) d 8127 [.ref p0] S Q := by
  have hL : lv_args 0 [.ref p0] = [(0, .ref p0)] := rfl
  refine zs_C.of1 (hB.2 8127 (by decide) (by decide)) hd (by rw [hL]; exact zs_sub_self _ (by exact ⟨rfl, trivial⟩)) ?_
  rw [hL]
  clear hL
  unfold w_X9_stringDone at h
  refine zu_aload_n d_8127_0 rfl (zs_ra _) ?_
  refine zu_iconst d_8127_1 zi_1 ?_
  obtain ⟨k1, h⟩ := h
  refine zc_8_884 (x0 := (1 : Int32)) hB rfl k1 d_8127_2 (Nat.le_of_ble_eq_true rfl) h (fun v3 S2 h => ?_)
  refine zu_ifne (t := 9) d_8127_5 rfl (fun c4 => ?_) (fun c4 => ?_)
  · have h := h.1 c4
    refine zu_aload_n d_8127_9 rfl (zs_ra _) ?_
    refine zu_bipush d_8127_10 zj_7 ?_
    refine zu_iconst d_8127_12 zi_0 ?_
    refine zu_iconst d_8127_13 zi_1 ?_
    obtain ⟨k5, h⟩ := h
    refine zc_8_599 (x0 := (7 : Int32)) (x1 := (0 : Int32)) (x2 := (1 : Int32)) hB rfl k5 d_8127_14 (Nat.le_of_ble_eq_true rfl) h (fun v7 S6 h => ?_)
    refine zu_istore_n d_8127_17 (zs_lt zq_8127 rfl) ?_
    refine zu_aload_n d_8127_18 rfl (zs_ra _) ?_
    obtain ⟨k8, h⟩ := h
    refine zg_8_105 rfl d_8127_19 k8 ?_
    refine zu_iload_n d_8127_22 rfl ?_
    refine zu_aload_n d_8127_23 rfl (zs_ra _) ?_
    refine zc_8_877  hB rfl k8 d_8127_24 (by simp only [List.map_cons, List.map_nil, List.sum_cons, List.sum_nil, zs_cat, zs_cI, zs_cJ, zs_cA]; exact Nat.le_of_ble_eq_true rfl) h (fun v10 S9 h => ?_)
    obtain ⟨b11, e12, h⟩ := h
    refine zs_stk2 (zs_rfe e12) ?_
    obtain ⟨k13, h⟩ := h
    obtain ⟨k14, h⟩ := h
    refine zu_bast_bool (k := 2) d_8127_27 rfl rfl k14 k13 ?_
    generalize e16 : zs_si S9 b11 v7.toNatClampNeg (vp_nar .boolean v10) = S15
    have h := h S15 e16.symm
    have K17 : ∀ b, zs_K S15 b = zs_K S9 b := zs_Kt e16 (zs_Ksi _ _ _ _) (fun _ => rfl)
    exact (u_X9_stringDone_28 hB h).weak ⟨rfl, rfl, trivial⟩
  · have h := h.2 c4
    exact zu_vret d_8127_8 zr_8127 h
/-! SchemaPascalModel.recordDone(I)V -/
theorem zm_8128 {σ : Nat → Nat} {n0 : Nat} {bf : ab_B} : ab_code (zx σ n0 bf).1 8128 = prog_17_method_136_code := rfl
theorem zq_8128 {σ : Nat → Nat} {n0 : Nat} {bf : ab_B} : ab_maxL (zx σ n0 bf).1 8128 = 2 := rfl
theorem zr_8128 {σ : Nat → Nat} {n0 : Nat} {bf : ab_B} : ab_ret (zx σ n0 bf).1 8128 = (Option.none : Option Jvm.ClassFile.FieldType) := rfl
theorem d_8128_0 {σ : Nat → Nat} {n0 : Nat} {bf : ab_B} : decode (ab_code (zx σ n0 bf).1 8128) 0 = .ok (.aload_n 0, 1) := zd zm_8128 (by decide +kernel)
theorem d_8128_1 {σ : Nat → Nat} {n0 : Nat} {bf : ab_B} : decode (ab_code (zx σ n0 bf).1 8128) 1 = .ok (.bipush 9, 2) := zd zm_8128 (by decide +kernel)
theorem d_8128_3 {σ : Nat → Nat} {n0 : Nat} {bf : ab_B} : decode (ab_code (zx σ n0 bf).1 8128) 3 = .ok (.invokevirtual 846, 3) := zd zm_8128 (by decide +kernel)
theorem d_8128_6 {σ : Nat → Nat} {n0 : Nat} {bf : ab_B} : decode (ab_code (zx σ n0 bf).1 8128) 6 = .ok (.aload_n 0, 1) := zd zm_8128 (by decide +kernel)
theorem d_8128_7 {σ : Nat → Nat} {n0 : Nat} {bf : ab_B} : decode (ab_code (zx σ n0 bf).1 8128) 7 = .ok (.getfield 444, 3) := zd zm_8128 (by decide +kernel)
theorem d_8128_10 {σ : Nat → Nat} {n0 : Nat} {bf : ab_B} : decode (ab_code (zx σ n0 bf).1 8128) 10 = .ok (.ifCond .ne 8, 3) := zd zm_8128 (by decide +kernel)
theorem d_8128_13 {σ : Nat → Nat} {n0 : Nat} {bf : ab_B} : decode (ab_code (zx σ n0 bf).1 8128) 13 = .ok (.aload_n 0, 1) := zd zm_8128 (by decide +kernel)
theorem d_8128_14 {σ : Nat → Nat} {n0 : Nat} {bf : ab_B} : decode (ab_code (zx σ n0 bf).1 8128) 14 = .ok (.iload_n 1, 1) := zd zm_8128 (by decide +kernel)
theorem d_8128_15 {σ : Nat → Nat} {n0 : Nat} {bf : ab_B} : decode (ab_code (zx σ n0 bf).1 8128) 15 = .ok (.invokevirtual 890, 3) := zd zm_8128 (by decide +kernel)
theorem d_8128_18 {σ : Nat → Nat} {n0 : Nat} {bf : ab_B} : decode (ab_code (zx σ n0 bf).1 8128) 18 = .ok (.return_, 1) := zd zm_8128 (by decide +kernel)
def w_X9_recordDone (X : zs_X) (d : Nat) (p0 : Nat) (p1 : Int32) (S : zs_T) (Q : zs_Q) : Prop :=
  (zs_K S p0 = some (.inl 8) ∧ zs_C X d 8025 [.ref p0, .int (9 : Int32)] S (zs_kV (fun S2 => (zs_K S2 p0 = some (.inl 8) ∧ ((¬ (zs_I S2 8010 p0) = 0 → (Q (.returned none) S2)) ∧ (¬ (¬ (zs_I S2 8010 p0) = 0) → (zs_C X d 8114 [.ref p0, .int p1] S2 (zs_kV (fun S6 => (Q (.returned none) S6)) Q)))))) Q))
theorem u_X9_recordDone {σ : Nat → Nat} {n0 : Nat} {bf : ab_B} {d : Nat} {p0 : Nat} {p1 : Int32} {S : zs_T} {Q : zs_Q} (hB : zt_B bf) (hd : 1 ≤ d) (h : w_X9_recordDone (zx σ n0 bf) (d - 1) p0 p1 S Q) : zs_C (zx σ n0 bf) d 8128 [.ref p0, .int p1] S Q := by
  have hL : lv_args 0 [.ref p0, .int p1] = [(0, .ref p0), (1, .int p1)] := rfl
  refine zs_C.of1 (hB.2 8128 (by decide) (by decide)) hd (by rw [hL]; exact zs_sub_self _ (by exact ⟨rfl, rfl, trivial⟩)) ?_
  rw [hL]
  clear hL
  unfold w_X9_recordDone at h
  refine zu_aload_n d_8128_0 rfl (zs_ra _) ?_
  refine zu_bipush d_8128_1 zj_9 ?_
  obtain ⟨k1, h⟩ := h
  refine zc_8_846 (x0 := (9 : Int32)) hB rfl k1 d_8128_3 (Nat.le_of_ble_eq_true rfl) h (fun S2 h => ?_)
  refine zu_aload_n d_8128_6 rfl (zs_ra _) ?_
  obtain ⟨k4, h⟩ := h
  refine zg_8_444 rfl d_8128_7 k4 ?_
  refine zu_ifne (t := 18) d_8128_10 rfl (fun c5 => ?_) (fun c5 => ?_)
  · have h := h.1 c5
    exact zu_vret d_8128_18 zr_8128 h
  · have h := h.2 c5
    refine zu_aload_n d_8128_13 rfl (zs_ra _) ?_
    refine zu_iload_n d_8128_14 rfl ?_
    refine zc_8_890 (x0 := p1) hB rfl k4 d_8128_15 (Nat.le_of_ble_eq_true rfl) h (fun S6 h => ?_)
    exact zu_vret d_8128_18 zr_8128 h
/-! SchemaPascalModel.recordFields(III)V -/
theorem zm_8129 {σ : Nat → Nat} {n0 : Nat} {bf : ab_B} : ab_code (zx σ n0 bf).1 8129 = prog_17_method_125_code := rfl
theorem zq_8129 {σ : Nat → Nat} {n0 : Nat} {bf : ab_B} : ab_maxL (zx σ n0 bf).1 8129 = 7 := rfl
theorem zr_8129 {σ : Nat → Nat} {n0 : Nat} {bf : ab_B} : ab_ret (zx σ n0 bf).1 8129 = (Option.none : Option Jvm.ClassFile.FieldType) := rfl
theorem d_8129_0 {σ : Nat → Nat} {n0 : Nat} {bf : ab_B} : decode (ab_code (zx σ n0 bf).1 8129) 0 = .ok (.aload_n 0, 1) := zd zm_8129 (by decide +kernel)
theorem d_8129_1 {σ : Nat → Nat} {n0 : Nat} {bf : ab_B} : decode (ab_code (zx σ n0 bf).1 8129) 1 = .ok (.getfield 444, 3) := zd zm_8129 (by decide +kernel)
theorem d_8129_4 {σ : Nat → Nat} {n0 : Nat} {bf : ab_B} : decode (ab_code (zx σ n0 bf).1 8129) 4 = .ok (.ifCond .le 4, 3) := zd zm_8129 (by decide +kernel)
theorem d_8129_7 {σ : Nat → Nat} {n0 : Nat} {bf : ab_B} : decode (ab_code (zx σ n0 bf).1 8129) 7 = .ok (.return_, 1) := zd zm_8129 (by decide +kernel)
theorem d_8129_8 {σ : Nat → Nat} {n0 : Nat} {bf : ab_B} : decode (ab_code (zx σ n0 bf).1 8129) 8 = .ok (.aload_n 0, 1) := zd zm_8129 (by decide +kernel)
theorem d_8129_9 {σ : Nat → Nat} {n0 : Nat} {bf : ab_B} : decode (ab_code (zx σ n0 bf).1 8129) 9 = .ok (.getfield 484, 3) := zd zm_8129 (by decide +kernel)
theorem d_8129_12 {σ : Nat → Nat} {n0 : Nat} {bf : ab_B} : decode (ab_code (zx σ n0 bf).1 8129) 12 = .ok (.iconst 1, 1) := zd zm_8129 (by decide +kernel)
theorem d_8129_13 {σ : Nat → Nat} {n0 : Nat} {bf : ab_B} : decode (ab_code (zx σ n0 bf).1 8129) 13 = .ok (.if_icmp .ne 102, 3) := zd zm_8129 (by decide +kernel)
theorem d_8129_16 {σ : Nat → Nat} {n0 : Nat} {bf : ab_B} : decode (ab_code (zx σ n0 bf).1 8129) 16 = .ok (.aload_n 0, 1) := zd zm_8129 (by decide +kernel)
theorem d_8129_17 {σ : Nat → Nat} {n0 : Nat} {bf : ab_B} : decode (ab_code (zx σ n0 bf).1 8129) 17 = .ok (.getfield 587, 3) := zd zm_8129 (by decide +kernel)
theorem d_8129_20 {σ : Nat → Nat} {n0 : Nat} {bf : ab_B} : decode (ab_code (zx σ n0 bf).1 8129) 20 = .ok (.iconst 1, 1) := zd zm_8129 (by decide +kernel)
theorem d_8129_21 {σ : Nat → Nat} {n0 : Nat} {bf : ab_B} : decode (ab_code (zx σ n0 bf).1 8129) 21 = .ok (.iadd, 1) := zd zm_8129 (by decide +kernel)
theorem d_8129_22 {σ : Nat → Nat} {n0 : Nat} {bf : ab_B} : decode (ab_code (zx σ n0 bf).1 8129) 22 = .ok (.istore 4, 2) := zd zm_8129 (by decide +kernel)
theorem d_8129_24 {σ : Nat → Nat} {n0 : Nat} {bf : ab_B} : decode (ab_code (zx σ n0 bf).1 8129) 24 = .ok (.iload_n 3, 1) := zd zm_8129 (by decide +kernel)
theorem d_8129_25 {σ : Nat → Nat} {n0 : Nat} {bf : ab_B} : decode (ab_code (zx σ n0 bf).1 8129) 25 = .ok (.istore 5, 2) := zd zm_8129 (by decide +kernel)
theorem d_8129_27 {σ : Nat → Nat} {n0 : Nat} {bf : ab_B} : decode (ab_code (zx σ n0 bf).1 8129) 27 = .ok (.iconst 1, 1) := zd zm_8129 (by decide +kernel)
theorem d_8129_28 {σ : Nat → Nat} {n0 : Nat} {bf : ab_B} : decode (ab_code (zx σ n0 bf).1 8129) 28 = .ok (.istore 6, 2) := zd zm_8129 (by decide +kernel)
theorem d_8129_30 {σ : Nat → Nat} {n0 : Nat} {bf : ab_B} : decode (ab_code (zx σ n0 bf).1 8129) 30 = .ok (.iload 6, 2) := zd zm_8129 (by decide +kernel)
theorem d_8129_32 {σ : Nat → Nat} {n0 : Nat} {bf : ab_B} : decode (ab_code (zx σ n0 bf).1 8129) 32 = .ok (.ifCond .eq 49, 3) := zd zm_8129 (by decide +kernel)
theorem d_8129_35 {σ : Nat → Nat} {n0 : Nat} {bf : ab_B} : decode (ab_code (zx σ n0 bf).1 8129) 35 = .ok (.aload_n 0, 1) := zd zm_8129 (by decide +kernel)
theorem d_8129_36 {σ : Nat → Nat} {n0 : Nat} {bf : ab_B} : decode (ab_code (zx σ n0 bf).1 8129) 36 = .ok (.iload_n 1, 1) := zd zm_8129 (by decide +kernel)
theorem d_8129_37 {σ : Nat → Nat} {n0 : Nat} {bf : ab_B} : decode (ab_code (zx σ n0 bf).1 8129) 37 = .ok (.invokevirtual 893, 3) := zd zm_8129 (by decide +kernel)
theorem d_8129_40 {σ : Nat → Nat} {n0 : Nat} {bf : ab_B} : decode (ab_code (zx σ n0 bf).1 8129) 40 = .ok (.ifCond .eq 41, 3) := zd zm_8129 (by decide +kernel)
theorem d_8129_43 {σ : Nat → Nat} {n0 : Nat} {bf : ab_B} : decode (ab_code (zx σ n0 bf).1 8129) 43 = .ok (.aload_n 0, 1) := zd zm_8129 (by decide +kernel)
theorem d_8129_44 {σ : Nat → Nat} {n0 : Nat} {bf : ab_B} : decode (ab_code (zx σ n0 bf).1 8129) 44 = .ok (.iload_n 1, 1) := zd zm_8129 (by decide +kernel)
theorem d_8129_45 {σ : Nat → Nat} {n0 : Nat} {bf : ab_B} : decode (ab_code (zx σ n0 bf).1 8129) 45 = .ok (.aload_n 0, 1) := zd zm_8129 (by decide +kernel)
theorem d_8129_46 {σ : Nat → Nat} {n0 : Nat} {bf : ab_B} : decode (ab_code (zx σ n0 bf).1 8129) 46 = .ok (.getfield 494, 3) := zd zm_8129 (by decide +kernel)
theorem d_8129_49 {σ : Nat → Nat} {n0 : Nat} {bf : ab_B} : decode (ab_code (zx σ n0 bf).1 8129) 49 = .ok (.iload_n 2, 1) := zd zm_8129 (by decide +kernel)
theorem d_8129_50 {σ : Nat → Nat} {n0 : Nat} {bf : ab_B} : decode (ab_code (zx σ n0 bf).1 8129) 50 = .ok (.iload 5, 2) := zd zm_8129 (by decide +kernel)
theorem d_8129_52 {σ : Nat → Nat} {n0 : Nat} {bf : ab_B} : decode (ab_code (zx σ n0 bf).1 8129) 52 = .ok (.invokevirtual 896, 3) := zd zm_8129 (by decide +kernel)
theorem d_8129_55 {σ : Nat → Nat} {n0 : Nat} {bf : ab_B} : decode (ab_code (zx σ n0 bf).1 8129) 55 = .ok (.istore 5, 2) := zd zm_8129 (by decide +kernel)
theorem d_8129_57 {σ : Nat → Nat} {n0 : Nat} {bf : ab_B} : decode (ab_code (zx σ n0 bf).1 8129) 57 = .ok (.aload_n 0, 1) := zd zm_8129 (by decide +kernel)
theorem d_8129_58 {σ : Nat → Nat} {n0 : Nat} {bf : ab_B} : decode (ab_code (zx σ n0 bf).1 8129) 58 = .ok (.invokevirtual 538, 3) := zd zm_8129 (by decide +kernel)
theorem d_8129_61 {σ : Nat → Nat} {n0 : Nat} {bf : ab_B} : decode (ab_code (zx σ n0 bf).1 8129) 61 = .ok (.aload_n 0, 1) := zd zm_8129 (by decide +kernel)
theorem d_8129_62 {σ : Nat → Nat} {n0 : Nat} {bf : ab_B} : decode (ab_code (zx σ n0 bf).1 8129) 62 = .ok (.bipush 12, 2) := zd zm_8129 (by decide +kernel)
theorem d_8129_64 {σ : Nat → Nat} {n0 : Nat} {bf : ab_B} : decode (ab_code (zx σ n0 bf).1 8129) 64 = .ok (.invokevirtual 535, 3) := zd zm_8129 (by decide +kernel)
theorem d_8129_67 {σ : Nat → Nat} {n0 : Nat} {bf : ab_B} : decode (ab_code (zx σ n0 bf).1 8129) 67 = .ok (.istore 6, 2) := zd zm_8129 (by decide +kernel)
theorem d_8129_69 {σ : Nat → Nat} {n0 : Nat} {bf : ab_B} : decode (ab_code (zx σ n0 bf).1 8129) 69 = .ok (.iload 6, 2) := zd zm_8129 (by decide +kernel)
theorem d_8129_71 {σ : Nat → Nat} {n0 : Nat} {bf : ab_B} : decode (ab_code (zx σ n0 bf).1 8129) 71 = .ok (.ifCond .eq (-41), 3) := zd zm_8129 (by decide +kernel)
theorem d_8129_74 {σ : Nat → Nat} {n0 : Nat} {bf : ab_B} : decode (ab_code (zx σ n0 bf).1 8129) 74 = .ok (.aload_n 0, 1) := zd zm_8129 (by decide +kernel)
theorem d_8129_75 {σ : Nat → Nat} {n0 : Nat} {bf : ab_B} : decode (ab_code (zx σ n0 bf).1 8129) 75 = .ok (.invokevirtual 538, 3) := zd zm_8129 (by decide +kernel)
theorem d_8129_78 {σ : Nat → Nat} {n0 : Nat} {bf : ab_B} : decode (ab_code (zx σ n0 bf).1 8129) 78 = .ok (.goto (-48), 3) := zd zm_8129 (by decide +kernel)
theorem d_8129_81 {σ : Nat → Nat} {n0 : Nat} {bf : ab_B} : decode (ab_code (zx σ n0 bf).1 8129) 81 = .ok (.aload_n 0, 1) := zd zm_8129 (by decide +kernel)
theorem d_8129_82 {σ : Nat → Nat} {n0 : Nat} {bf : ab_B} : decode (ab_code (zx σ n0 bf).1 8129) 82 = .ok (.bipush 14, 2) := zd zm_8129 (by decide +kernel)
theorem d_8129_84 {σ : Nat → Nat} {n0 : Nat} {bf : ab_B} : decode (ab_code (zx σ n0 bf).1 8129) 84 = .ok (.invokevirtual 746, 3) := zd zm_8129 (by decide +kernel)
theorem d_8129_87 {σ : Nat → Nat} {n0 : Nat} {bf : ab_B} : decode (ab_code (zx σ n0 bf).1 8129) 87 = .ok (.aload_n 0, 1) := zd zm_8129 (by decide +kernel)
theorem d_8129_88 {σ : Nat → Nat} {n0 : Nat} {bf : ab_B} : decode (ab_code (zx σ n0 bf).1 8129) 88 = .ok (.bipush 40, 2) := zd zm_8129 (by decide +kernel)
theorem d_8129_90 {σ : Nat → Nat} {n0 : Nat} {bf : ab_B} : decode (ab_code (zx σ n0 bf).1 8129) 90 = .ok (.iload_n 1, 1) := zd zm_8129 (by decide +kernel)
theorem d_8129_91 {σ : Nat → Nat} {n0 : Nat} {bf : ab_B} : decode (ab_code (zx σ n0 bf).1 8129) 91 = .ok (.iload 4, 2) := zd zm_8129 (by decide +kernel)
theorem d_8129_93 {σ : Nat → Nat} {n0 : Nat} {bf : ab_B} : decode (ab_code (zx σ n0 bf).1 8129) 93 = .ok (.iload 5, 2) := zd zm_8129 (by decide +kernel)
theorem d_8129_95 {σ : Nat → Nat} {n0 : Nat} {bf : ab_B} : decode (ab_code (zx σ n0 bf).1 8129) 95 = .ok (.iload 4, 2) := zd zm_8129 (by decide +kernel)
theorem d_8129_97 {σ : Nat → Nat} {n0 : Nat} {bf : ab_B} : decode (ab_code (zx σ n0 bf).1 8129) 97 = .ok (.isub, 1) := zd zm_8129 (by decide +kernel)
theorem d_8129_98 {σ : Nat → Nat} {n0 : Nat} {bf : ab_B} : decode (ab_code (zx σ n0 bf).1 8129) 98 = .ok (.iconst 1, 1) := zd zm_8129 (by decide +kernel)
theorem d_8129_99 {σ : Nat → Nat} {n0 : Nat} {bf : ab_B} : decode (ab_code (zx σ n0 bf).1 8129) 99 = .ok (.iadd, 1) := zd zm_8129 (by decide +kernel)
theorem d_8129_100 {σ : Nat → Nat} {n0 : Nat} {bf : ab_B} : decode (ab_code (zx σ n0 bf).1 8129) 100 = .ok (.invokevirtual 649, 3) := zd zm_8129 (by decide +kernel)
theorem d_8129_103 {σ : Nat → Nat} {n0 : Nat} {bf : ab_B} : decode (ab_code (zx σ n0 bf).1 8129) 103 = .ok (.aload_n 0, 1) := zd zm_8129 (by decide +kernel)
theorem d_8129_104 {σ : Nat → Nat} {n0 : Nat} {bf : ab_B} : decode (ab_code (zx σ n0 bf).1 8129) 104 = .ok (.bipush 30, 2) := zd zm_8129 (by decide +kernel)
theorem d_8129_106 {σ : Nat → Nat} {n0 : Nat} {bf : ab_B} : decode (ab_code (zx σ n0 bf).1 8129) 106 = .ok (.iconst 0, 1) := zd zm_8129 (by decide +kernel)
theorem d_8129_107 {σ : Nat → Nat} {n0 : Nat} {bf : ab_B} : decode (ab_code (zx σ n0 bf).1 8129) 107 = .ok (.iconst 0, 1) := zd zm_8129 (by decide +kernel)
theorem d_8129_108 {σ : Nat → Nat} {n0 : Nat} {bf : ab_B} : decode (ab_code (zx σ n0 bf).1 8129) 108 = .ok (.iconst 0, 1) := zd zm_8129 (by decide +kernel)
theorem d_8129_109 {σ : Nat → Nat} {n0 : Nat} {bf : ab_B} : decode (ab_code (zx σ n0 bf).1 8129) 109 = .ok (.invokevirtual 649, 3) := zd zm_8129 (by decide +kernel)
theorem d_8129_112 {σ : Nat → Nat} {n0 : Nat} {bf : ab_B} : decode (ab_code (zx σ n0 bf).1 8129) 112 = .ok (.goto 23, 3) := zd zm_8129 (by decide +kernel)
theorem d_8129_115 {σ : Nat → Nat} {n0 : Nat} {bf : ab_B} : decode (ab_code (zx σ n0 bf).1 8129) 115 = .ok (.aload_n 0, 1) := zd zm_8129 (by decide +kernel)
theorem d_8129_116 {σ : Nat → Nat} {n0 : Nat} {bf : ab_B} : decode (ab_code (zx σ n0 bf).1 8129) 116 = .ok (.bipush 20, 2) := zd zm_8129 (by decide +kernel)
theorem d_8129_118 {σ : Nat → Nat} {n0 : Nat} {bf : ab_B} : decode (ab_code (zx σ n0 bf).1 8129) 118 = .ok (.invokevirtual 544, 3) := zd zm_8129 (by decide +kernel)
theorem d_8129_121 {σ : Nat → Nat} {n0 : Nat} {bf : ab_B} : decode (ab_code (zx σ n0 bf).1 8129) 121 = .ok (.ifCond .eq 14, 3) := zd zm_8129 (by decide +kernel)
theorem d_8129_124 {σ : Nat → Nat} {n0 : Nat} {bf : ab_B} : decode (ab_code (zx σ n0 bf).1 8129) 124 = .ok (.aload_n 0, 1) := zd zm_8129 (by decide +kernel)
theorem d_8129_125 {σ : Nat → Nat} {n0 : Nat} {bf : ab_B} : decode (ab_code (zx σ n0 bf).1 8129) 125 = .ok (.invokevirtual 538, 3) := zd zm_8129 (by decide +kernel)
theorem d_8129_128 {σ : Nat → Nat} {n0 : Nat} {bf : ab_B} : decode (ab_code (zx σ n0 bf).1 8129) 128 = .ok (.aload_n 0, 1) := zd zm_8129 (by decide +kernel)
theorem d_8129_129 {σ : Nat → Nat} {n0 : Nat} {bf : ab_B} : decode (ab_code (zx σ n0 bf).1 8129) 129 = .ok (.iload_n 1, 1) := zd zm_8129 (by decide +kernel)
theorem d_8129_130 {σ : Nat → Nat} {n0 : Nat} {bf : ab_B} : decode (ab_code (zx σ n0 bf).1 8129) 130 = .ok (.iload_n 2, 1) := zd zm_8129 (by decide +kernel)
theorem d_8129_131 {σ : Nat → Nat} {n0 : Nat} {bf : ab_B} : decode (ab_code (zx σ n0 bf).1 8129) 131 = .ok (.iload_n 3, 1) := zd zm_8129 (by decide +kernel)
theorem d_8129_132 {σ : Nat → Nat} {n0 : Nat} {bf : ab_B} : decode (ab_code (zx σ n0 bf).1 8129) 132 = .ok (.invokevirtual 899, 3) := zd zm_8129 (by decide +kernel)
theorem d_8129_135 {σ : Nat → Nat} {n0 : Nat} {bf : ab_B} : decode (ab_code (zx σ n0 bf).1 8129) 135 = .ok (.return_, 1) := zd zm_8129 (by decide +kernel)
def w_X9_recordFields_135 (X : zs_X) (d : Nat)  (S : zs_T) (Q : zs_Q) : Prop :=
  (Q (.returned none) S)
theorem u_X9_recordFields_135 {σ : Nat → Nat} {n0 : Nat} {bf : ab_B} {d : Nat}  {S : zs_T} {Q : zs_Q} (hB : zt_B bf) (h : w_X9_recordFields_135 (zx σ n0 bf) d  S Q) : zs_U (zx σ n0 bf) d 8129 135 [] [] S Q := by
  unfold w_X9_recordFields_135 at h
  exact zu_vret d_8129_135 zr_8129 h
def w_X9_recordFields_112 (X : zs_X) (d : Nat)  (S : zs_T) (Q : zs_Q) : Prop :=
  (w_X9_recordFields_135 X d  S Q)
theorem u_X9_recordFields_112 {σ : Nat → Nat} {n0 : Nat} {bf : ab_B} {d : Nat}  {S : zs_T} {Q : zs_Q} (hB : zt_B bf) (h : w_X9_recordFields_112 (zx σ n0 bf) d  S Q) : zs_U (zx σ n0 bf) d 8129 112 [] [] S Q := by
  unfold w_X9_recordFields_112 at h
  refine zu_goto (t := 135) d_8129_112 rfl ?_
  exact (u_X9_recordFields_135 hB h).weak trivial
def w_X9_recordFields_81 (X : zs_X) (d : Nat) (p0 : Nat) (p1 : Int32) (p4 : Int32) (p5 : Int32) (S : zs_T) (Q : zs_Q) : Prop :=
  (zs_K S p0 = some (.inl 8) ∧ zs_C X d 8028 [.ref p0, .int (14 : Int32)] S (zs_kV (fun S2 => (zs_K S2 p0 = some (.inl 8) ∧ zs_C X d 8030 [.ref p0, .int (40 : Int32), .int p1, .int p4, .int ((p5 - p4) + (1 : Int32))] S2 (zs_kV (fun S5 => (zs_K S5 p0 = some (.inl 8) ∧ zs_C X d 8030 [.ref p0, .int (30 : Int32), .int (0 : Int32), .int (0 : Int32), .int (0 : Int32)] S5 (zs_kV (fun S8 => w_X9_recordFields_112 X d  S8 Q) Q))) Q))) Q))
theorem u_X9_recordFields_81 {σ : Nat → Nat} {n0 : Nat} {bf : ab_B} {d : Nat} {p0 : Nat} {p1 : Int32} {p4 : Int32} {p5 : Int32} {S : zs_T} {Q : zs_Q} (hB : zt_B bf) (h : w_X9_recordFields_81 (zx σ n0 bf) d p0 p1 p4 p5 S Q) : zs_U (zx σ n0 bf) d 8129 81 [(0, .ref p0), (1, .int p1), (4, .int p4), (5, .int p5)] [] S Q := by
  unfold w_X9_recordFields_81 at h
  refine zu_aload_n d_8129_81 rfl (zs_ra _) ?_
  refine zu_bipush d_8129_82 zj_14 ?_
  obtain ⟨k1, h⟩ := h
  refine zc_8_746 (x0 := (14 : Int32)) hB rfl k1 d_8129_84 (Nat.le_of_ble_eq_true rfl) h (fun S2 h => ?_)
  refine zu_aload_n d_8129_87 rfl (zs_ra _) ?_
  refine zu_bipush d_8129_88 zj_40 ?_
  refine zu_iload_n d_8129_90 rfl ?_
  refine zu_iload d_8129_91 rfl ?_
  refine zu_iload d_8129_93 rfl ?_
  refine zu_iload d_8129_95 rfl ?_
  refine zu_stk d_8129_97 rfl rfl ?_
  refine zu_iconst d_8129_98 zi_1 ?_
  refine zu_stk d_8129_99 rfl rfl ?_
  obtain ⟨k4, h⟩ := h
  refine zc_8_649 (x0 := (40 : Int32)) (x1 := p1) (x2 := p4) (x3 := ((p5 - p4) + (1 : Int32))) hB rfl k4 d_8129_100 (Nat.le_of_ble_eq_true rfl) h (fun S5 h => ?_)
  refine zu_aload_n d_8129_103 rfl (zs_ra _) ?_
  refine zu_bipush d_8129_104 zj_30 ?_
  refine zu_iconst d_8129_106 zi_0 ?_
  refine zu_iconst d_8129_107 zi_0 ?_
  refine zu_iconst d_8129_108 zi_0 ?_
  obtain ⟨k7, h⟩ := h
  refine zc_8_649 (x0 := (30 : Int32)) (x1 := (0 : Int32)) (x2 := (0 : Int32)) (x3 := (0 : Int32)) hB rfl k7 d_8129_109 (Nat.le_of_ble_eq_true rfl) h (fun S8 h => ?_)
  exact (u_X9_recordFields_112 hB h).weak trivial
def w_X9_recordFields_61 (X : zs_X) (d : Nat) (p0 : Nat) (p1 : Int32) (p2 : Int32) (p4 : Int32) (p5 : Int32) (S : zs_T) (Q : zs_Q) : Prop :=
  (zs_K S p0 = some (.inl 8) ∧ zs_C X d 8029 [.ref p0, .int (12 : Int32)] S (zs_kI (fun v3 S2 => (((v3 = 0 → zs_U X d 8129 30 [(0, .ref p0), (1, .int p1), (2, .int p2), (4, .int p4), (5, .int p5), (6, .int v3)] [] S2 Q) ∧ (¬ (v3 = 0) → (zs_K S2 p0 = some (.inl 8) ∧ zs_C X d 8014 [.ref p0] S2 (zs_kV (fun S6 => (zs_U X d 8129 30 [(0, .ref p0), (1, .int p1), (2, .int p2), (4, .int p4), (5, .int p5), (6, .int v3)] [] S6 Q)) Q)))))) Q))
theorem u_X9_recordFields_61 {σ : Nat → Nat} {n0 : Nat} {bf : ab_B} {d : Nat} {p0 : Nat} {p1 : Int32} {p2 : Int32} {p4 : Int32} {p5 : Int32} {S : zs_T} {Q : zs_Q} (hB : zt_B bf) (h : w_X9_recordFields_61 (zx σ n0 bf) d p0 p1 p2 p4 p5 S Q) : zs_U (zx σ n0 bf) d 8129 61 [(0, .ref p0), (1, .int p1), (2, .int p2), (4, .int p4), (5, .int p5)] [] S Q := by
  unfold w_X9_recordFields_61 at h
  refine zu_aload_n d_8129_61 rfl (zs_ra _) ?_
  refine zu_bipush d_8129_62 zj_12 ?_
  obtain ⟨k1, h⟩ := h
  refine zc_8_535 (x0 := (12 : Int32)) hB rfl k1 d_8129_64 (Nat.le_of_ble_eq_true rfl) h (fun v3 S2 h => ?_)
  refine zu_istore d_8129_67 (zs_lt zq_8129 rfl) ?_
  refine zu_iload d_8129_69 rfl ?_
  refine zu_ifeq (t := 30) d_8129_71 rfl (fun c4 => ?_) (fun c4 => ?_)
  · have h := h.1 c4
    exact h.weak ⟨rfl, rfl, rfl, rfl, rfl, rfl, trivial⟩
  · have h := h.2 c4
    refine zu_aload_n d_8129_74 rfl (zs_ra _) ?_
    obtain ⟨k5, h⟩ := h
    refine zc_8_538  hB rfl k5 d_8129_75 (Nat.le_of_ble_eq_true rfl) h (fun S6 h => ?_)
    refine zu_goto (t := 30) d_8129_78 rfl ?_
    exact h.weak ⟨rfl, rfl, rfl, rfl, rfl, rfl, trivial⟩
def w_X9_recordFields_30 (X : zs_X) (d : Nat) (p0 : Nat) (p1 : Int32) (p2 : Int32) (p4 : Int32) (p5 : Int32) (p6 : Int32) (S : zs_T) (Q : zs_Q) : Prop :=
  (((p6 = 0 → w_X9_recordFields_81 X d p0 p1 p4 p5 S Q) ∧ (¬ (p6 = 0) → (zs_K S p0 = some (.inl 8) ∧ zs_C X d 8130 [.ref p0, .int p1] S (zs_kI (fun v4 S3 => (((v4 = 0 → w_X9_recordFields_81 X d p0 p1 p4 p5 S3 Q) ∧ (¬ (v4 = 0) → (zs_K S3 p0 = some (.inl 8) ∧ zs_C X d 8131 [.ref p0, .int p1, .int (zs_I S3 8009 p0), .int p2, .int p5] S3 (zs_kI (fun v8 S7 => (zs_K S7 p0 = some (.inl 8) ∧ zs_C X d 8014 [.ref p0] S7 (zs_kV (fun S10 => w_X9_recordFields_61 X d p0 p1 p2 p4 v8 S10 Q) Q))) Q)))))) Q)))))
theorem u_X9_recordFields_30 {σ : Nat → Nat} {n0 : Nat} {bf : ab_B} {d : Nat} {p0 : Nat} {p1 : Int32} {p2 : Int32} {p4 : Int32} {p5 : Int32} {p6 : Int32} {S : zs_T} {Q : zs_Q} (hB : zt_B bf) (h : w_X9_recordFields_30 (zx σ n0 bf) d p0 p1 p2 p4 p5 p6 S Q) : zs_U (zx σ n0 bf) d 8129 30 [(0, .ref p0), (1, .int p1), (2, .int p2), (4, .int p4), (5, .int p5), (6, .int p6)] [] S Q := by
  unfold w_X9_recordFields_30 at h
  refine zu_iload d_8129_30 rfl ?_
  refine zu_ifeq (t := 81) d_8129_32 rfl (fun c1 => ?_) (fun c1 => ?_)
  · have h := h.1 c1
    exact (u_X9_recordFields_81 hB h).weak ⟨rfl, rfl, rfl, rfl, trivial⟩
  · have h := h.2 c1
    refine zu_aload_n d_8129_35 rfl (zs_ra _) ?_
    refine zu_iload_n d_8129_36 rfl ?_
    obtain ⟨k2, h⟩ := h
    refine zc_8_893 (x0 := p1) hB rfl k2 d_8129_37 (Nat.le_of_ble_eq_true rfl) h (fun v4 S3 h => ?_)
    refine zu_ifeq (t := 81) d_8129_40 rfl (fun c5 => ?_) (fun c5 => ?_)
    · have h := h.1 c5
      exact (u_X9_recordFields_81 hB h).weak ⟨rfl, rfl, rfl, rfl, trivial⟩
    · have h := h.2 c5
      refine zu_aload_n d_8129_43 rfl (zs_ra _) ?_
      refine zu_iload_n d_8129_44 rfl ?_
      refine zu_aload_n d_8129_45 rfl (zs_ra _) ?_
      obtain ⟨k6, h⟩ := h
      refine zg_8_494 rfl d_8129_46 k6 ?_
      refine zu_iload_n d_8129_49 rfl ?_
      refine zu_iload d_8129_50 rfl ?_
      refine zc_8_896 (x0 := p1) (x1 := (zs_I S3 8009 p0)) (x2 := p2) (x3 := p5) hB rfl k6 d_8129_52 (Nat.le_of_ble_eq_true rfl) h (fun v8 S7 h => ?_)
      refine zu_istore d_8129_55 (zs_lt zq_8129 rfl) ?_
      refine zu_aload_n d_8129_57 rfl (zs_ra _) ?_
      obtain ⟨k9, h⟩ := h
      refine zc_8_538  hB rfl k9 d_8129_58 (Nat.le_of_ble_eq_true rfl) h (fun S10 h => ?_)
      exact (u_X9_recordFields_61 hB h).weak ⟨rfl, rfl, rfl, rfl, rfl, trivial⟩
def w_X9_recordFields (X : zs_X) (d : Nat) (p0 : Nat) (p1 : Int32) (p2 : Int32) (p3 : Int32) (S : zs_T) (Q : zs_Q) : Prop :=
  (zs_K S p0 = some (.inl 8) ∧ (((zs_I S 8010 p0) ≤ 0 → (((¬ (zs_I S 8006 p0) = (1 : Int32) → (zs_C X d 8026 [.ref p0, .int (20 : Int32)] S (zs_kI (fun v5 S4 => (((v5 = 0 → w_X9_recordFields_135 X d  S4 Q) ∧ (¬ (v5 = 0) → (zs_K S4 p0 = some (.inl 8) ∧ zs_C X d 8014 [.ref p0] S4 (zs_kV (fun S8 => (zs_K S8 p0 = some (.inl 8) ∧ zs_C X d 8132 [.ref p0, .int p1, .int p2, .int p3] S8 (zs_kV (fun S11 => w_X9_recordFields_135 X d  S11 Q) Q))) Q)))))) Q))) ∧ (¬ (¬ (zs_I S 8006 p0) = (1 : Int32)) → (zs_U X d 8129 30 [(0, .ref p0), (1, .int p1), (2, .int p2), (4, .int ((zs_I S 8069 p0) + (1 : Int32))), (5, .int p3), (6, .int (1 : Int32))] [] S Q))))) ∧ (¬ ((zs_I S 8010 p0) ≤ 0) → (Q (.returned none) S))))
theorem u_X9_recordFields {σ : Nat → Nat} {n0 : Nat} {bf : ab_B} {d : Nat} {p0 : Nat} {p1 : Int32} {p2 : Int32} {p3 : Int32} {S : zs_T} {Q : zs_Q} (hB : zt_B bf) (hd : 1 ≤ d) (h : w_X9_recordFields (zx σ n0 bf) (d - 1) p0 p1 p2 p3 S Q) : zs_C (zx σ n0 bf) d 8129 [.ref p0, .int p1, .int p2, .int p3] S Q := by
  have hL : lv_args 0 [.ref p0, .int p1, .int p2, .int p3] = [(0, .ref p0), (1, .int p1), (2, .int p2), (3, .int p3)] := rfl
  refine zs_C.of1 (hB.2 8129 (by decide) (by decide)) hd (by rw [hL]; exact zs_sub_self _ (by exact ⟨rfl, rfl, rfl, rfl, trivial⟩)) ?_
  rw [hL]
  clear hL
  unfold w_X9_recordFields at h
  refine zu_aload_n d_8129_0 rfl (zs_ra _) ?_
  obtain ⟨k1, h⟩ := h
  refine zg_8_444 rfl d_8129_1 k1 ?_
  refine zu_ifle (t := 8) d_8129_4 rfl (fun c2 => ?_) (fun c2 => ?_)
  · have h := h.1 c2
    refine zu_aload_n d_8129_8 rfl (zs_ra _) ?_
    refine zg_8_484 rfl d_8129_9 k1 ?_
    refine zu_iconst d_8129_12 zi_1 ?_
    refine zu_cmpne (t := 115) d_8129_13 rfl (fun c3 => ?_) (fun c3 => ?_)
    · have h := h.1 c3
      refine zu_aload_n d_8129_115 rfl (zs_ra _) ?_
      refine zu_bipush d_8129_116 zj_20 ?_
      refine zc_8_544 (x0 := (20 : Int32)) hB rfl k1 d_8129_118 (Nat.le_of_ble_eq_true rfl) h (fun v5 S4 h => ?_)
      refine zu_ifeq (t := 135) d_8129_121 rfl (fun c6 => ?_) (fun c6 => ?_)
      · have h := h.1 c6
        exact (u_X9_recordFields_135 hB h).weak trivial
      · have h := h.2 c6
        refine zu_aload_n d_8129_124 rfl (zs_ra _) ?_
        obtain ⟨k7, h⟩ := h
        refine zc_8_538  hB rfl k7 d_8129_125 (Nat.le_of_ble_eq_true rfl) h (fun S8 h => ?_)
        refine zu_aload_n d_8129_128 rfl (zs_ra _) ?_
        refine zu_iload_n d_8129_129 rfl ?_
        refine zu_iload_n d_8129_130 rfl ?_
        refine zu_iload_n d_8129_131 rfl ?_
        obtain ⟨k10, h⟩ := h
        refine zc_8_899 (x0 := p1) (x1 := p2) (x2 := p3) hB rfl k10 d_8129_132 (Nat.le_of_ble_eq_true rfl) h (fun S11 h => ?_)
        exact (u_X9_recordFields_135 hB h).weak trivial
    · have h := h.2 c3
      refine zu_aload_n d_8129_16 rfl (zs_ra _) ?_
      refine zg_8_587 rfl d_8129_17 k1 ?_
      refine zu_iconst d_8129_20 zi_1 ?_
      refine zu_stk d_8129_21 rfl rfl ?_
      refine zu_istore d_8129_22 (zs_lt zq_8129 rfl) ?_
      refine zu_iload_n d_8129_24 rfl ?_
      refine zu_istore d_8129_25 (zs_lt zq_8129 rfl) ?_
      refine zu_iconst d_8129_27 zi_1 ?_
      refine zu_istore d_8129_28 (zs_lt zq_8129 rfl) ?_
      exact h.weak ⟨rfl, rfl, rfl, rfl, rfl, rfl, trivial⟩
  · have h := h.2 c2
    exact zu_vret d_8129_7 zr_8129 h
/-! SchemaPascalModel.newName(I)Z -/
theorem zm_8130 {σ : Nat → Nat} {n0 : Nat} {bf : ab_B} : ab_code (zx σ n0 bf).1 8130 = prog_17_method_124_code := rfl
theorem zq_8130 {σ : Nat → Nat} {n0 : Nat} {bf : ab_B} : ab_maxL (zx σ n0 bf).1 8130 = 2 := rfl
theorem zr_8130 {σ : Nat → Nat} {n0 : Nat} {bf : ab_B} : ab_ret (zx σ n0 bf).1 8130 = (Option.some Jvm.ClassFile.FieldType.boolean) := rfl
theorem d_8130_0 {σ : Nat → Nat} {n0 : Nat} {bf : ab_B} : decode (ab_code (zx σ n0 bf).1 8130) 0 = .ok (.aload_n 0, 1) := zd zm_8130 (by decide +kernel)
theorem d_8130_1 {σ : Nat → Nat} {n0 : Nat} {bf : ab_B} : decode (ab_code (zx σ n0 bf).1 8130) 1 = .ok (.getfield 484, 3) := zd zm_8130 (by decide +kernel)
theorem d_8130_4 {σ : Nat → Nat} {n0 : Nat} {bf : ab_B} : decode (ab_code (zx σ n0 bf).1 8130) 4 = .ok (.iconst 1, 1) := zd zm_8130 (by decide +kernel)
theorem d_8130_5 {σ : Nat → Nat} {n0 : Nat} {bf : ab_B} : decode (ab_code (zx σ n0 bf).1 8130) 5 = .ok (.if_icmp .eq 10, 3) := zd zm_8130 (by decide +kernel)
theorem d_8130_8 {σ : Nat → Nat} {n0 : Nat} {bf : ab_B} : decode (ab_code (zx σ n0 bf).1 8130) 8 = .ok (.aload_n 0, 1) := zd zm_8130 (by decide +kernel)
theorem d_8130_9 {σ : Nat → Nat} {n0 : Nat} {bf : ab_B} : decode (ab_code (zx σ n0 bf).1 8130) 9 = .ok (.iconst 2, 1) := zd zm_8130 (by decide +kernel)
theorem d_8130_10 {σ : Nat → Nat} {n0 : Nat} {bf : ab_B} : decode (ab_code (zx σ n0 bf).1 8130) 10 = .ok (.invokevirtual 541, 3) := zd zm_8130 (by decide +kernel)
theorem d_8130_13 {σ : Nat → Nat} {n0 : Nat} {bf : ab_B} : decode (ab_code (zx σ n0 bf).1 8130) 13 = .ok (.iconst 0, 1) := zd zm_8130 (by decide +kernel)
theorem d_8130_14 {σ : Nat → Nat} {n0 : Nat} {bf : ab_B} : decode (ab_code (zx σ n0 bf).1 8130) 14 = .ok (.ireturn, 1) := zd zm_8130 (by decide +kernel)
theorem d_8130_15 {σ : Nat → Nat} {n0 : Nat} {bf : ab_B} : decode (ab_code (zx σ n0 bf).1 8130) 15 = .ok (.aload_n 0, 1) := zd zm_8130 (by decide +kernel)
theorem d_8130_16 {σ : Nat → Nat} {n0 : Nat} {bf : ab_B} : decode (ab_code (zx σ n0 bf).1 8130) 16 = .ok (.iload_n 1, 1) := zd zm_8130 (by decide +kernel)
theorem d_8130_17 {σ : Nat → Nat} {n0 : Nat} {bf : ab_B} : decode (ab_code (zx σ n0 bf).1 8130) 17 = .ok (.aload_n 0, 1) := zd zm_8130 (by decide +kernel)
theorem d_8130_18 {σ : Nat → Nat} {n0 : Nat} {bf : ab_B} : decode (ab_code (zx σ n0 bf).1 8130) 18 = .ok (.getfield 494, 3) := zd zm_8130 (by decide +kernel)
theorem d_8130_21 {σ : Nat → Nat} {n0 : Nat} {bf : ab_B} : decode (ab_code (zx σ n0 bf).1 8130) 21 = .ok (.invokevirtual 743, 3) := zd zm_8130 (by decide +kernel)
theorem d_8130_24 {σ : Nat → Nat} {n0 : Nat} {bf : ab_B} : decode (ab_code (zx σ n0 bf).1 8130) 24 = .ok (.ifCond .le 10, 3) := zd zm_8130 (by decide +kernel)
theorem d_8130_27 {σ : Nat → Nat} {n0 : Nat} {bf : ab_B} : decode (ab_code (zx σ n0 bf).1 8130) 27 = .ok (.aload_n 0, 1) := zd zm_8130 (by decide +kernel)
theorem d_8130_28 {σ : Nat → Nat} {n0 : Nat} {bf : ab_B} : decode (ab_code (zx σ n0 bf).1 8130) 28 = .ok (.iconst 4, 1) := zd zm_8130 (by decide +kernel)
theorem d_8130_29 {σ : Nat → Nat} {n0 : Nat} {bf : ab_B} : decode (ab_code (zx σ n0 bf).1 8130) 29 = .ok (.invokevirtual 541, 3) := zd zm_8130 (by decide +kernel)
theorem d_8130_32 {σ : Nat → Nat} {n0 : Nat} {bf : ab_B} : decode (ab_code (zx σ n0 bf).1 8130) 32 = .ok (.iconst 0, 1) := zd zm_8130 (by decide +kernel)
theorem d_8130_33 {σ : Nat → Nat} {n0 : Nat} {bf : ab_B} : decode (ab_code (zx σ n0 bf).1 8130) 33 = .ok (.ireturn, 1) := zd zm_8130 (by decide +kernel)
theorem d_8130_34 {σ : Nat → Nat} {n0 : Nat} {bf : ab_B} : decode (ab_code (zx σ n0 bf).1 8130) 34 = .ok (.iconst 1, 1) := zd zm_8130 (by decide +kernel)
theorem d_8130_35 {σ : Nat → Nat} {n0 : Nat} {bf : ab_B} : decode (ab_code (zx σ n0 bf).1 8130) 35 = .ok (.ireturn, 1) := zd zm_8130 (by decide +kernel)
def w_X9_newName (X : zs_X) (d : Nat) (p0 : Nat) (p1 : Int32) (S : zs_T) (Q : zs_Q) : Prop :=
  (zs_K S p0 = some (.inl 8) ∧ (((zs_I S 8006 p0) = (1 : Int32) → (zs_C X d 8077 [.ref p0, .int p1, .int (zs_I S 8009 p0)] S (zs_kI (fun v4 S3 => (((v4 ≤ 0 → (Q (.returned (some (.int (1 : Int32)))) S3)) ∧ (¬ (v4 ≤ 0) → (zs_K S3 p0 = some (.inl 8) ∧ zs_C X d 8027 [.ref p0, .int (4 : Int32)] S3 (zs_kV (fun S7 => (Q (.returned (some (.int (0 : Int32)))) S7)) Q)))))) Q))) ∧ (¬ ((zs_I S 8006 p0) = (1 : Int32)) → (zs_C X d 8027 [.ref p0, .int (2 : Int32)] S (zs_kV (fun S9 => (Q (.returned (some (.int (0 : Int32)))) S9)) Q)))))
theorem u_X9_newName {σ : Nat → Nat} {n0 : Nat} {bf : ab_B} {d : Nat} {p0 : Nat} {p1 : Int32} {S : zs_T} {Q : zs_Q} (hB : zt_B bf) (hd : 1 ≤ d) (h : w_X9_newName (zx σ n0 bf) (d - 1) p0 p1 S Q) : zs_C (zx σ n0 bf) d 8130 [.ref p0, .int p1] S Q := by
  have hL : lv_args 0 [.ref p0, .int p1] = [(0, .ref p0), (1, .int p1)] := rfl
  refine zs_C.of1 (hB.2 8130 (by decide) (by decide)) hd (by rw [hL]; exact zs_sub_self _ (by exact ⟨rfl, rfl, trivial⟩)) ?_
  rw [hL]
  clear hL
  unfold w_X9_newName at h
  refine zu_aload_n d_8130_0 rfl (zs_ra _) ?_
  obtain ⟨k1, h⟩ := h
  refine zg_8_484 rfl d_8130_1 k1 ?_
  refine zu_iconst d_8130_4 zi_1 ?_
  refine zu_cmpeq (t := 15) d_8130_5 rfl (fun c2 => ?_) (fun c2 => ?_)
  · have h := h.1 c2
    refine zu_aload_n d_8130_15 rfl (zs_ra _) ?_
    refine zu_iload_n d_8130_16 rfl ?_
    refine zu_aload_n d_8130_17 rfl (zs_ra _) ?_
    refine zg_8_494 rfl d_8130_18 k1 ?_
    refine zc_8_743 (x0 := p1) (x1 := (zs_I S 8009 p0)) hB rfl k1 d_8130_21 (Nat.le_of_ble_eq_true rfl) h (fun v4 S3 h => ?_)
    refine zu_ifle (t := 34) d_8130_24 rfl (fun c5 => ?_) (fun c5 => ?_)
    · have h := h.1 c5
      refine zu_iconst d_8130_34 zi_1 ?_
      exact zu_iret d_8130_35 zr_8130 (zs_b_n (Or.inr rfl)) h
    · have h := h.2 c5
      refine zu_aload_n d_8130_27 rfl (zs_ra _) ?_
      refine zu_iconst d_8130_28 zi_4 ?_
      obtain ⟨k6, h⟩ := h
      refine zc_8_541 (x0 := (4 : Int32)) hB rfl k6 d_8130_29 (Nat.le_of_ble_eq_true rfl) h (fun S7 h => ?_)
      refine zu_iconst d_8130_32 zi_0 ?_
      exact zu_iret d_8130_33 zr_8130 (zs_b_n (Or.inl rfl)) h
  · have h := h.2 c2
    refine zu_aload_n d_8130_8 rfl (zs_ra _) ?_
    refine zu_iconst d_8130_9 zi_2 ?_
    refine zc_8_541 (x0 := (2 : Int32)) hB rfl k1 d_8130_10 (Nat.le_of_ble_eq_true rfl) h (fun S9 h => ?_)
    refine zu_iconst d_8130_13 zi_0 ?_
    exact zu_iret d_8130_14 zr_8130 (zs_b_n (Or.inl rfl)) h
/-! SchemaPascalModel.newField(IIII)I -/
theorem zm_8131 {σ : Nat → Nat} {n0 : Nat} {bf : ab_B} : ab_code (zx σ n0 bf).1 8131 = prog_17_method_123_code := rfl
theorem zq_8131 {σ : Nat → Nat} {n0 : Nat} {bf : ab_B} : ab_maxL (zx σ n0 bf).1 8131 = 5 := rfl
theorem zr_8131 {σ : Nat → Nat} {n0 : Nat} {bf : ab_B} : ab_ret (zx σ n0 bf).1 8131 = (Option.some Jvm.ClassFile.FieldType.int) := rfl
theorem d_8131_0 {σ : Nat → Nat} {n0 : Nat} {bf : ab_B} : decode (ab_code (zx σ n0 bf).1 8131) 0 = .ok (.aload_n 0, 1) := zd zm_8131 (by decide +kernel)
theorem d_8131_1 {σ : Nat → Nat} {n0 : Nat} {bf : ab_B} : decode (ab_code (zx σ n0 bf).1 8131) 1 = .ok (.dup, 1) := zd zm_8131 (by decide +kernel)
theorem d_8131_2 {σ : Nat → Nat} {n0 : Nat} {bf : ab_B} : decode (ab_code (zx σ n0 bf).1 8131) 2 = .ok (.getfield 587, 3) := zd zm_8131 (by decide +kernel)
theorem d_8131_5 {σ : Nat → Nat} {n0 : Nat} {bf : ab_B} : decode (ab_code (zx σ n0 bf).1 8131) 5 = .ok (.iconst 1, 1) := zd zm_8131 (by decide +kernel)
theorem d_8131_6 {σ : Nat → Nat} {n0 : Nat} {bf : ab_B} : decode (ab_code (zx σ n0 bf).1 8131) 6 = .ok (.iadd, 1) := zd zm_8131 (by decide +kernel)
theorem d_8131_7 {σ : Nat → Nat} {n0 : Nat} {bf : ab_B} : decode (ab_code (zx σ n0 bf).1 8131) 7 = .ok (.putfield 587, 3) := zd zm_8131 (by decide +kernel)
theorem d_8131_10 {σ : Nat → Nat} {n0 : Nat} {bf : ab_B} : decode (ab_code (zx σ n0 bf).1 8131) 10 = .ok (.aload_n 0, 1) := zd zm_8131 (by decide +kernel)
theorem d_8131_11 {σ : Nat → Nat} {n0 : Nat} {bf : ab_B} : decode (ab_code (zx σ n0 bf).1 8131) 11 = .ok (.getfield 139, 3) := zd zm_8131 (by decide +kernel)
theorem d_8131_14 {σ : Nat → Nat} {n0 : Nat} {bf : ab_B} : decode (ab_code (zx σ n0 bf).1 8131) 14 = .ok (.aload_n 0, 1) := zd zm_8131 (by decide +kernel)
theorem d_8131_15 {σ : Nat → Nat} {n0 : Nat} {bf : ab_B} : decode (ab_code (zx σ n0 bf).1 8131) 15 = .ok (.getfield 587, 3) := zd zm_8131 (by decide +kernel)
theorem d_8131_18 {σ : Nat → Nat} {n0 : Nat} {bf : ab_B} : decode (ab_code (zx σ n0 bf).1 8131) 18 = .ok (.iload_n 2, 1) := zd zm_8131 (by decide +kernel)
theorem d_8131_19 {σ : Nat → Nat} {n0 : Nat} {bf : ab_B} : decode (ab_code (zx σ n0 bf).1 8131) 19 = .ok (.iastore, 1) := zd zm_8131 (by decide +kernel)
theorem d_8131_20 {σ : Nat → Nat} {n0 : Nat} {bf : ab_B} : decode (ab_code (zx σ n0 bf).1 8131) 20 = .ok (.aload_n 0, 1) := zd zm_8131 (by decide +kernel)
theorem d_8131_21 {σ : Nat → Nat} {n0 : Nat} {bf : ab_B} : decode (ab_code (zx σ n0 bf).1 8131) 21 = .ok (.getfield 142, 3) := zd zm_8131 (by decide +kernel)
theorem d_8131_24 {σ : Nat → Nat} {n0 : Nat} {bf : ab_B} : decode (ab_code (zx σ n0 bf).1 8131) 24 = .ok (.aload_n 0, 1) := zd zm_8131 (by decide +kernel)
theorem d_8131_25 {σ : Nat → Nat} {n0 : Nat} {bf : ab_B} : decode (ab_code (zx σ n0 bf).1 8131) 25 = .ok (.getfield 587, 3) := zd zm_8131 (by decide +kernel)
theorem d_8131_28 {σ : Nat → Nat} {n0 : Nat} {bf : ab_B} : decode (ab_code (zx σ n0 bf).1 8131) 28 = .ok (.iconst 0, 1) := zd zm_8131 (by decide +kernel)
theorem d_8131_29 {σ : Nat → Nat} {n0 : Nat} {bf : ab_B} : decode (ab_code (zx σ n0 bf).1 8131) 29 = .ok (.iastore, 1) := zd zm_8131 (by decide +kernel)
theorem d_8131_30 {σ : Nat → Nat} {n0 : Nat} {bf : ab_B} : decode (ab_code (zx σ n0 bf).1 8131) 30 = .ok (.aload_n 0, 1) := zd zm_8131 (by decide +kernel)
theorem d_8131_31 {σ : Nat → Nat} {n0 : Nat} {bf : ab_B} : decode (ab_code (zx σ n0 bf).1 8131) 31 = .ok (.getfield 145, 3) := zd zm_8131 (by decide +kernel)
theorem d_8131_34 {σ : Nat → Nat} {n0 : Nat} {bf : ab_B} : decode (ab_code (zx σ n0 bf).1 8131) 34 = .ok (.aload_n 0, 1) := zd zm_8131 (by decide +kernel)
theorem d_8131_35 {σ : Nat → Nat} {n0 : Nat} {bf : ab_B} : decode (ab_code (zx σ n0 bf).1 8131) 35 = .ok (.getfield 587, 3) := zd zm_8131 (by decide +kernel)
theorem d_8131_38 {σ : Nat → Nat} {n0 : Nat} {bf : ab_B} : decode (ab_code (zx σ n0 bf).1 8131) 38 = .ok (.iload_n 3, 1) := zd zm_8131 (by decide +kernel)
theorem d_8131_39 {σ : Nat → Nat} {n0 : Nat} {bf : ab_B} : decode (ab_code (zx σ n0 bf).1 8131) 39 = .ok (.iastore, 1) := zd zm_8131 (by decide +kernel)
theorem d_8131_40 {σ : Nat → Nat} {n0 : Nat} {bf : ab_B} : decode (ab_code (zx σ n0 bf).1 8131) 40 = .ok (.aload_n 0, 1) := zd zm_8131 (by decide +kernel)
theorem d_8131_41 {σ : Nat → Nat} {n0 : Nat} {bf : ab_B} : decode (ab_code (zx σ n0 bf).1 8131) 41 = .ok (.getfield 148, 3) := zd zm_8131 (by decide +kernel)
theorem d_8131_44 {σ : Nat → Nat} {n0 : Nat} {bf : ab_B} : decode (ab_code (zx σ n0 bf).1 8131) 44 = .ok (.aload_n 0, 1) := zd zm_8131 (by decide +kernel)
theorem d_8131_45 {σ : Nat → Nat} {n0 : Nat} {bf : ab_B} : decode (ab_code (zx σ n0 bf).1 8131) 45 = .ok (.getfield 587, 3) := zd zm_8131 (by decide +kernel)
theorem d_8131_48 {σ : Nat → Nat} {n0 : Nat} {bf : ab_B} : decode (ab_code (zx σ n0 bf).1 8131) 48 = .ok (.iconst 0, 1) := zd zm_8131 (by decide +kernel)
theorem d_8131_49 {σ : Nat → Nat} {n0 : Nat} {bf : ab_B} : decode (ab_code (zx σ n0 bf).1 8131) 49 = .ok (.iastore, 1) := zd zm_8131 (by decide +kernel)
theorem d_8131_50 {σ : Nat → Nat} {n0 : Nat} {bf : ab_B} : decode (ab_code (zx σ n0 bf).1 8131) 50 = .ok (.aload_n 0, 1) := zd zm_8131 (by decide +kernel)
theorem d_8131_51 {σ : Nat → Nat} {n0 : Nat} {bf : ab_B} : decode (ab_code (zx σ n0 bf).1 8131) 51 = .ok (.getfield 151, 3) := zd zm_8131 (by decide +kernel)
theorem d_8131_54 {σ : Nat → Nat} {n0 : Nat} {bf : ab_B} : decode (ab_code (zx σ n0 bf).1 8131) 54 = .ok (.aload_n 0, 1) := zd zm_8131 (by decide +kernel)
theorem d_8131_55 {σ : Nat → Nat} {n0 : Nat} {bf : ab_B} : decode (ab_code (zx σ n0 bf).1 8131) 55 = .ok (.getfield 587, 3) := zd zm_8131 (by decide +kernel)
theorem d_8131_58 {σ : Nat → Nat} {n0 : Nat} {bf : ab_B} : decode (ab_code (zx σ n0 bf).1 8131) 58 = .ok (.iconst 0, 1) := zd zm_8131 (by decide +kernel)
theorem d_8131_59 {σ : Nat → Nat} {n0 : Nat} {bf : ab_B} : decode (ab_code (zx σ n0 bf).1 8131) 59 = .ok (.bastore, 1) := zd zm_8131 (by decide +kernel)
theorem d_8131_60 {σ : Nat → Nat} {n0 : Nat} {bf : ab_B} : decode (ab_code (zx σ n0 bf).1 8131) 60 = .ok (.aload_n 0, 1) := zd zm_8131 (by decide +kernel)
theorem d_8131_61 {σ : Nat → Nat} {n0 : Nat} {bf : ab_B} : decode (ab_code (zx σ n0 bf).1 8131) 61 = .ok (.getfield 254, 3) := zd zm_8131 (by decide +kernel)
theorem d_8131_64 {σ : Nat → Nat} {n0 : Nat} {bf : ab_B} : decode (ab_code (zx σ n0 bf).1 8131) 64 = .ok (.aload_n 0, 1) := zd zm_8131 (by decide +kernel)
theorem d_8131_65 {σ : Nat → Nat} {n0 : Nat} {bf : ab_B} : decode (ab_code (zx σ n0 bf).1 8131) 65 = .ok (.getfield 587, 3) := zd zm_8131 (by decide +kernel)
theorem d_8131_68 {σ : Nat → Nat} {n0 : Nat} {bf : ab_B} : decode (ab_code (zx σ n0 bf).1 8131) 68 = .ok (.iload 4, 2) := zd zm_8131 (by decide +kernel)
theorem d_8131_70 {σ : Nat → Nat} {n0 : Nat} {bf : ab_B} : decode (ab_code (zx σ n0 bf).1 8131) 70 = .ok (.iastore, 1) := zd zm_8131 (by decide +kernel)
theorem d_8131_71 {σ : Nat → Nat} {n0 : Nat} {bf : ab_B} : decode (ab_code (zx σ n0 bf).1 8131) 71 = .ok (.aload_n 0, 1) := zd zm_8131 (by decide +kernel)
theorem d_8131_72 {σ : Nat → Nat} {n0 : Nat} {bf : ab_B} : decode (ab_code (zx σ n0 bf).1 8131) 72 = .ok (.getfield 172, 3) := zd zm_8131 (by decide +kernel)
theorem d_8131_75 {σ : Nat → Nat} {n0 : Nat} {bf : ab_B} : decode (ab_code (zx σ n0 bf).1 8131) 75 = .ok (.aload_n 0, 1) := zd zm_8131 (by decide +kernel)
theorem d_8131_76 {σ : Nat → Nat} {n0 : Nat} {bf : ab_B} : decode (ab_code (zx σ n0 bf).1 8131) 76 = .ok (.getfield 587, 3) := zd zm_8131 (by decide +kernel)
theorem d_8131_79 {σ : Nat → Nat} {n0 : Nat} {bf : ab_B} : decode (ab_code (zx σ n0 bf).1 8131) 79 = .ok (.iconst 0, 1) := zd zm_8131 (by decide +kernel)
theorem d_8131_80 {σ : Nat → Nat} {n0 : Nat} {bf : ab_B} : decode (ab_code (zx σ n0 bf).1 8131) 80 = .ok (.iastore, 1) := zd zm_8131 (by decide +kernel)
theorem d_8131_81 {σ : Nat → Nat} {n0 : Nat} {bf : ab_B} : decode (ab_code (zx σ n0 bf).1 8131) 81 = .ok (.aload_n 0, 1) := zd zm_8131 (by decide +kernel)
theorem d_8131_82 {σ : Nat → Nat} {n0 : Nat} {bf : ab_B} : decode (ab_code (zx σ n0 bf).1 8131) 82 = .ok (.getfield 96, 3) := zd zm_8131 (by decide +kernel)
theorem d_8131_85 {σ : Nat → Nat} {n0 : Nat} {bf : ab_B} : decode (ab_code (zx σ n0 bf).1 8131) 85 = .ok (.iload_n 1, 1) := zd zm_8131 (by decide +kernel)
theorem d_8131_86 {σ : Nat → Nat} {n0 : Nat} {bf : ab_B} : decode (ab_code (zx σ n0 bf).1 8131) 86 = .ok (.iaload, 1) := zd zm_8131 (by decide +kernel)
theorem d_8131_87 {σ : Nat → Nat} {n0 : Nat} {bf : ab_B} : decode (ab_code (zx σ n0 bf).1 8131) 87 = .ok (.ifCond .ne 16, 3) := zd zm_8131 (by decide +kernel)
theorem d_8131_90 {σ : Nat → Nat} {n0 : Nat} {bf : ab_B} : decode (ab_code (zx σ n0 bf).1 8131) 90 = .ok (.aload_n 0, 1) := zd zm_8131 (by decide +kernel)
theorem d_8131_91 {σ : Nat → Nat} {n0 : Nat} {bf : ab_B} : decode (ab_code (zx σ n0 bf).1 8131) 91 = .ok (.getfield 96, 3) := zd zm_8131 (by decide +kernel)
theorem d_8131_94 {σ : Nat → Nat} {n0 : Nat} {bf : ab_B} : decode (ab_code (zx σ n0 bf).1 8131) 94 = .ok (.iload_n 1, 1) := zd zm_8131 (by decide +kernel)
theorem d_8131_95 {σ : Nat → Nat} {n0 : Nat} {bf : ab_B} : decode (ab_code (zx σ n0 bf).1 8131) 95 = .ok (.aload_n 0, 1) := zd zm_8131 (by decide +kernel)
theorem d_8131_96 {σ : Nat → Nat} {n0 : Nat} {bf : ab_B} : decode (ab_code (zx σ n0 bf).1 8131) 96 = .ok (.getfield 587, 3) := zd zm_8131 (by decide +kernel)
theorem d_8131_99 {σ : Nat → Nat} {n0 : Nat} {bf : ab_B} : decode (ab_code (zx σ n0 bf).1 8131) 99 = .ok (.iastore, 1) := zd zm_8131 (by decide +kernel)
theorem d_8131_100 {σ : Nat → Nat} {n0 : Nat} {bf : ab_B} : decode (ab_code (zx σ n0 bf).1 8131) 100 = .ok (.goto 18, 3) := zd zm_8131 (by decide +kernel)
theorem d_8131_103 {σ : Nat → Nat} {n0 : Nat} {bf : ab_B} : decode (ab_code (zx σ n0 bf).1 8131) 103 = .ok (.aload_n 0, 1) := zd zm_8131 (by decide +kernel)
theorem d_8131_104 {σ : Nat → Nat} {n0 : Nat} {bf : ab_B} : decode (ab_code (zx σ n0 bf).1 8131) 104 = .ok (.getfield 148, 3) := zd zm_8131 (by decide +kernel)
theorem d_8131_107 {σ : Nat → Nat} {n0 : Nat} {bf : ab_B} : decode (ab_code (zx σ n0 bf).1 8131) 107 = .ok (.aload_n 0, 1) := zd zm_8131 (by decide +kernel)
theorem d_8131_108 {σ : Nat → Nat} {n0 : Nat} {bf : ab_B} : decode (ab_code (zx σ n0 bf).1 8131) 108 = .ok (.getfield 99, 3) := zd zm_8131 (by decide +kernel)
theorem d_8131_111 {σ : Nat → Nat} {n0 : Nat} {bf : ab_B} : decode (ab_code (zx σ n0 bf).1 8131) 111 = .ok (.iload_n 1, 1) := zd zm_8131 (by decide +kernel)
theorem d_8131_112 {σ : Nat → Nat} {n0 : Nat} {bf : ab_B} : decode (ab_code (zx σ n0 bf).1 8131) 112 = .ok (.iaload, 1) := zd zm_8131 (by decide +kernel)
theorem d_8131_113 {σ : Nat → Nat} {n0 : Nat} {bf : ab_B} : decode (ab_code (zx σ n0 bf).1 8131) 113 = .ok (.aload_n 0, 1) := zd zm_8131 (by decide +kernel)
theorem d_8131_114 {σ : Nat → Nat} {n0 : Nat} {bf : ab_B} : decode (ab_code (zx σ n0 bf).1 8131) 114 = .ok (.getfield 587, 3) := zd zm_8131 (by decide +kernel)
theorem d_8131_117 {σ : Nat → Nat} {n0 : Nat} {bf : ab_B} : decode (ab_code (zx σ n0 bf).1 8131) 117 = .ok (.iastore, 1) := zd zm_8131 (by decide +kernel)
theorem d_8131_118 {σ : Nat → Nat} {n0 : Nat} {bf : ab_B} : decode (ab_code (zx σ n0 bf).1 8131) 118 = .ok (.aload_n 0, 1) := zd zm_8131 (by decide +kernel)
theorem d_8131_119 {σ : Nat → Nat} {n0 : Nat} {bf : ab_B} : decode (ab_code (zx σ n0 bf).1 8131) 119 = .ok (.getfield 99, 3) := zd zm_8131 (by decide +kernel)
theorem d_8131_122 {σ : Nat → Nat} {n0 : Nat} {bf : ab_B} : decode (ab_code (zx σ n0 bf).1 8131) 122 = .ok (.iload_n 1, 1) := zd zm_8131 (by decide +kernel)
theorem d_8131_123 {σ : Nat → Nat} {n0 : Nat} {bf : ab_B} : decode (ab_code (zx σ n0 bf).1 8131) 123 = .ok (.aload_n 0, 1) := zd zm_8131 (by decide +kernel)
theorem d_8131_124 {σ : Nat → Nat} {n0 : Nat} {bf : ab_B} : decode (ab_code (zx σ n0 bf).1 8131) 124 = .ok (.getfield 587, 3) := zd zm_8131 (by decide +kernel)
theorem d_8131_127 {σ : Nat → Nat} {n0 : Nat} {bf : ab_B} : decode (ab_code (zx σ n0 bf).1 8131) 127 = .ok (.iastore, 1) := zd zm_8131 (by decide +kernel)
theorem d_8131_128 {σ : Nat → Nat} {n0 : Nat} {bf : ab_B} : decode (ab_code (zx σ n0 bf).1 8131) 128 = .ok (.aload_n 0, 1) := zd zm_8131 (by decide +kernel)
theorem d_8131_129 {σ : Nat → Nat} {n0 : Nat} {bf : ab_B} : decode (ab_code (zx σ n0 bf).1 8131) 129 = .ok (.getfield 587, 3) := zd zm_8131 (by decide +kernel)
theorem d_8131_132 {σ : Nat → Nat} {n0 : Nat} {bf : ab_B} : decode (ab_code (zx σ n0 bf).1 8131) 132 = .ok (.ireturn, 1) := zd zm_8131 (by decide +kernel)
def w_X9_newField_118 (X : zs_X) (d : Nat) (p0 : Nat) (p1 : Int32) (S : zs_T) (Q : zs_Q) : Prop :=
  (zs_K S p0 = some (.inl 8) ∧ ∃ b2, (zs_R S 8047 p0) = some b2 ∧ zs_A S b2 0 p1 ∧ ab_n0 X.1 ≤ b2 ∧ ∀ S6, S6 = zs_si S b2 p1.toNatClampNeg (zs_I S 8069 p0) → Q (.returned (some (.int (zs_I S6 8069 p0)))) S6)
theorem u_X9_newField_118 {σ : Nat → Nat} {n0 : Nat} {bf : ab_B} {d : Nat} {p0 : Nat} {p1 : Int32} {S : zs_T} {Q : zs_Q} (hB : zt_B bf) (h : w_X9_newField_118 (zx σ n0 bf) d p0 p1 S Q) : zs_U (zx σ n0 bf) d 8131 118 [(0, .ref p0), (1, .int p1)] [] S Q := by
  unfold w_X9_newField_118 at h
  refine zu_aload_n d_8131_118 rfl (zs_ra _) ?_
  obtain ⟨k1, h⟩ := h
  refine zg_8_99 rfl d_8131_119 k1 ?_
  refine zu_iload_n d_8131_122 rfl ?_
  refine zu_aload_n d_8131_123 rfl (zs_ra _) ?_
  refine zg_8_587 rfl d_8131_124 k1 ?_
  obtain ⟨b2, e3, h⟩ := h
  refine zs_stk2 (zs_rfe e3) ?_
  obtain ⟨k4, h⟩ := h
  obtain ⟨k5, h⟩ := h
  refine zu_iast (k := 0) d_8131_127 rfl rfl k5 k4 ?_
  generalize e7 : zs_si S b2 p1.toNatClampNeg (zs_I S 8069 p0) = S6
  have h := h S6 e7.symm
  have K8 : ∀ b, zs_K S6 b = zs_K S b := zs_Kt e7 (zs_Ksi _ _ _ _) (fun _ => rfl)
  refine zu_aload_n d_8131_128 rfl (zs_ra _) ?_
  refine zg_8_587 rfl d_8131_129 ((K8 _).trans k1) ?_
  exact zu_iret d_8131_132 zr_8131 rfl h
def w_X9_newField_103 (X : zs_X) (d : Nat) (p0 : Nat) (p1 : Int32) (S : zs_T) (Q : zs_Q) : Prop :=
  (zs_K S p0 = some (.inl 8) ∧ ∃ b2, (zs_R S 8047 p0) = some b2 ∧ zs_A S b2 0 p1 ∧ ∃ b5, (zs_R S 8067 p0) = some b5 ∧ zs_A S b5 0 (zs_i S b2 p1.toNatClampNeg) ∧ ab_n0 X.1 ≤ b5 ∧ ∀ S9, S9 = zs_si S b5 (zs_i S b2 p1.toNatClampNeg).toNatClampNeg (zs_I S 8069 p0) → w_X9_newField_118 X d p0 p1 S9 Q)
theorem u_X9_newField_103 {σ : Nat → Nat} {n0 : Nat} {bf : ab_B} {d : Nat} {p0 : Nat} {p1 : Int32} {S : zs_T} {Q : zs_Q} (hB : zt_B bf) (h : w_X9_newField_103 (zx σ n0 bf) d p0 p1 S Q) : zs_U (zx σ n0 bf) d 8131 103 [(0, .ref p0), (1, .int p1)] [] S Q := by
  unfold w_X9_newField_103 at h
  refine zu_aload_n d_8131_103 rfl (zs_ra _) ?_
  obtain ⟨k1, h⟩ := h
  refine zg_8_148 rfl d_8131_104 k1 ?_
  refine zu_aload_n d_8131_107 rfl (zs_ra _) ?_
  refine zg_8_99 rfl d_8131_108 k1 ?_
  refine zu_iload_n d_8131_111 rfl ?_
  obtain ⟨b2, e3, h⟩ := h
  refine zs_stk1 (zs_rfe e3) ?_
  obtain ⟨k4, h⟩ := h
  refine zu_iald (k := 0) d_8131_112 rfl rfl k4 ?_
  refine zu_aload_n d_8131_113 rfl (zs_ra _) ?_
  refine zg_8_587 rfl d_8131_114 k1 ?_
  obtain ⟨b5, e6, h⟩ := h
  refine zs_stk2 (zs_rfe e6) ?_
  obtain ⟨k7, h⟩ := h
  obtain ⟨k8, h⟩ := h
  refine zu_iast (k := 0) d_8131_117 rfl rfl k8 k7 ?_
  generalize e10 : zs_si S b5 (zs_i S b2 p1.toNatClampNeg).toNatClampNeg (zs_I S 8069 p0) = S9
  have h := h S9 e10.symm
  have K11 : ∀ b, zs_K S9 b = zs_K S b := zs_Kt e10 (zs_Ksi _ _ _ _) (fun _ => rfl)
  exact (u_X9_newField_118 hB h).weak ⟨rfl, rfl, trivial⟩
def w_X9_newField_90 (X : zs_X) (d : Nat) (p0 : Nat) (p1 : Int32) (S : zs_T) (Q : zs_Q) : Prop :=
  (zs_K S p0 = some (.inl 8) ∧ ∃ b2, (zs_R S 8046 p0) = some b2 ∧ zs_A S b2 0 p1 ∧ ab_n0 X.1 ≤ b2 ∧ ∀ S6, S6 = zs_si S b2 p1.toNatClampNeg (zs_I S 8069 p0) → w_X9_newField_118 X d p0 p1 S6 Q)
theorem u_X9_newField_90 {σ : Nat → Nat} {n0 : Nat} {bf : ab_B} {d : Nat} {p0 : Nat} {p1 : Int32} {S : zs_T} {Q : zs_Q} (hB : zt_B bf) (h : w_X9_newField_90 (zx σ n0 bf) d p0 p1 S Q) : zs_U (zx σ n0 bf) d 8131 90 [(0, .ref p0), (1, .int p1)] [] S Q := by
  unfold w_X9_newField_90 at h
  refine zu_aload_n d_8131_90 rfl (zs_ra _) ?_
  obtain ⟨k1, h⟩ := h
  refine zg_8_96 rfl d_8131_91 k1 ?_
  refine zu_iload_n d_8131_94 rfl ?_
  refine zu_aload_n d_8131_95 rfl (zs_ra _) ?_
  refine zg_8_587 rfl d_8131_96 k1 ?_
  obtain ⟨b2, e3, h⟩ := h
  refine zs_stk2 (zs_rfe e3) ?_
  obtain ⟨k4, h⟩ := h
  obtain ⟨k5, h⟩ := h
  refine zu_iast (k := 0) d_8131_99 rfl rfl k5 k4 ?_
  generalize e7 : zs_si S b2 p1.toNatClampNeg (zs_I S 8069 p0) = S6
  have h := h S6 e7.symm
  have K8 : ∀ b, zs_K S6 b = zs_K S b := zs_Kt e7 (zs_Ksi _ _ _ _) (fun _ => rfl)
  refine zu_goto (t := 118) d_8131_100 rfl ?_
  exact (u_X9_newField_118 hB h).weak ⟨rfl, rfl, trivial⟩
def w_X9_newField_60 (X : zs_X) (d : Nat) (p0 : Nat) (p1 : Int32) (p4 : Int32) (S : zs_T) (Q : zs_Q) : Prop :=
  (zs_K S p0 = some (.inl 8) ∧ ∃ b2, (zs_R S 8117 p0) = some b2 ∧ zs_A S b2 0 (zs_I S 8069 p0) ∧ ab_n0 X.1 ≤ b2 ∧ ∀ S6, S6 = zs_si S b2 (zs_I S 8069 p0).toNatClampNeg p4 → ∃ b9, (zs_R S6 8078 p0) = some b9 ∧ zs_A S b9 0 (zs_I S6 8069 p0) ∧ ab_n0 X.1 ≤ b9 ∧ ∀ S13, S13 = zs_si S6 b9 (zs_I S6 8069 p0).toNatClampNeg (0 : Int32) → ∃ b16, (zs_R S13 8046 p0) = some b16 ∧ zs_A S b16 0 p1 ∧ ((¬ (zs_i S13 b16 p1.toNatClampNeg) = 0 → w_X9_newField_103 X d p0 p1 S13 Q) ∧ (¬ (¬ (zs_i S13 b16 p1.toNatClampNeg) = 0) → w_X9_newField_90 X d p0 p1 S13 Q)))
theorem u_X9_newField_60 {σ : Nat → Nat} {n0 : Nat} {bf : ab_B} {d : Nat} {p0 : Nat} {p1 : Int32} {p4 : Int32} {S : zs_T} {Q : zs_Q} (hB : zt_B bf) (h : w_X9_newField_60 (zx σ n0 bf) d p0 p1 p4 S Q) : zs_U (zx σ n0 bf) d 8131 60 [(0, .ref p0), (1, .int p1), (4, .int p4)] [] S Q := by
  unfold w_X9_newField_60 at h
  refine zu_aload_n d_8131_60 rfl (zs_ra _) ?_
  obtain ⟨k1, h⟩ := h
  refine zg_8_254 rfl d_8131_61 k1 ?_
  refine zu_aload_n d_8131_64 rfl (zs_ra _) ?_
  refine zg_8_587 rfl d_8131_65 k1 ?_
  refine zu_iload d_8131_68 rfl ?_
  obtain ⟨b2, e3, h⟩ := h
  refine zs_stk2 (zs_rfe e3) ?_
  obtain ⟨k4, h⟩ := h
  obtain ⟨k5, h⟩ := h
  refine zu_iast (k := 0) d_8131_70 rfl rfl k5 k4 ?_
  generalize e7 : zs_si S b2 (zs_I S 8069 p0).toNatClampNeg p4 = S6
  have h := h S6 e7.symm
  have K8 : ∀ b, zs_K S6 b = zs_K S b := zs_Kt e7 (zs_Ksi _ _ _ _) (fun _ => rfl)
  refine zu_aload_n d_8131_71 rfl (zs_ra _) ?_
  refine zg_8_172 rfl d_8131_72 ((K8 _).trans k1) ?_
  refine zu_aload_n d_8131_75 rfl (zs_ra _) ?_
  refine zg_8_587 rfl d_8131_76 ((K8 _).trans k1) ?_
  refine zu_iconst d_8131_79 zi_0 ?_
  obtain ⟨b9, e10, h⟩ := h
  refine zs_stk2 (zs_rfe e10) ?_
  obtain ⟨k11, h⟩ := h
  obtain ⟨k12, h⟩ := h
  refine zu_iast (k := 0) d_8131_80 rfl rfl k12 (zs_Ak K8 k11) ?_
  generalize e14 : zs_si S6 b9 (zs_I S6 8069 p0).toNatClampNeg (0 : Int32) = S13
  have h := h S13 e14.symm
  have K15 : ∀ b, zs_K S13 b = zs_K S b := zs_Kt e14 (zs_Ksi _ _ _ _) K8
  refine zu_aload_n d_8131_81 rfl (zs_ra _) ?_
  refine zg_8_96 rfl d_8131_82 ((K15 _).trans k1) ?_
  refine zu_iload_n d_8131_85 rfl ?_
  obtain ⟨b16, e17, h⟩ := h
  refine zs_stk1 (zs_rfe e17) ?_
  obtain ⟨k18, h⟩ := h
  refine zu_iald (k := 0) d_8131_86 rfl rfl (zs_Ak K15 k18) ?_
  refine zu_ifne (t := 103) d_8131_87 rfl (fun c19 => ?_) (fun c19 => ?_)
  · have h := h.1 c19
    exact (u_X9_newField_103 hB h).weak ⟨rfl, rfl, trivial⟩
  · have h := h.2 c19
    exact (u_X9_newField_90 hB h).weak ⟨rfl, rfl, trivial⟩
def w_X9_newField_30 (X : zs_X) (d : Nat) (p0 : Nat) (p1 : Int32) (p3 : Int32) (p4 : Int32) (S : zs_T) (Q : zs_Q) : Prop :=
  (zs_K S p0 = some (.inl 8) ∧ ∃ b2, (zs_R S 8066 p0) = some b2 ∧ zs_A S b2 0 (zs_I S 8069 p0) ∧ ab_n0 X.1 ≤ b2 ∧ ∀ S6, S6 = zs_si S b2 (zs_I S 8069 p0).toNatClampNeg p3 → ∃ b9, (zs_R S6 8067 p0) = some b9 ∧ zs_A S b9 0 (zs_I S6 8069 p0) ∧ ab_n0 X.1 ≤ b9 ∧ ∀ S13, S13 = zs_si S6 b9 (zs_I S6 8069 p0).toNatClampNeg (0 : Int32) → ∃ b16, (zs_R S13 8068 p0) = some b16 ∧ zs_A S b16 2 (zs_I S13 8069 p0) ∧ ab_n0 X.1 ≤ b16 ∧ ∀ S20, S20 = zs_si S13 b16 (zs_I S13 8069 p0).toNatClampNeg (vp_nar .boolean (0 : Int32)) → w_X9_newField_60 X d p0 p1 p4 S20 Q)
theorem u_X9_newField_30 {σ : Nat → Nat} {n0 : Nat} {bf : ab_B} {d : Nat} {p0 : Nat} {p1 : Int32} {p3 : Int32} {p4 : Int32} {S : zs_T} {Q : zs_Q} (hB : zt_B bf) (h : w_X9_newField_30 (zx σ n0 bf) d p0 p1 p3 p4 S Q) : zs_U (zx σ n0 bf) d 8131 30 [(0, .ref p0), (1, .int p1), (3, .int p3), (4, .int p4)] [] S Q := by
  unfold w_X9_newField_30 at h
  refine zu_aload_n d_8131_30 rfl (zs_ra _) ?_
  obtain ⟨k1, h⟩ := h
  refine zg_8_145 rfl d_8131_31 k1 ?_
  refine zu_aload_n d_8131_34 rfl (zs_ra _) ?_
  refine zg_8_587 rfl d_8131_35 k1 ?_
  refine zu_iload_n d_8131_38 rfl ?_
  obtain ⟨b2, e3, h⟩ := h
  refine zs_stk2 (zs_rfe e3) ?_
  obtain ⟨k4, h⟩ := h
  obtain ⟨k5, h⟩ := h
  refine zu_iast (k := 0) d_8131_39 rfl rfl k5 k4 ?_
  generalize e7 : zs_si S b2 (zs_I S 8069 p0).toNatClampNeg p3 = S6
  have h := h S6 e7.symm
  have K8 : ∀ b, zs_K S6 b = zs_K S b := zs_Kt e7 (zs_Ksi _ _ _ _) (fun _ => rfl)
  refine zu_aload_n d_8131_40 rfl (zs_ra _) ?_
  refine zg_8_148 rfl d_8131_41 ((K8 _).trans k1) ?_
  refine zu_aload_n d_8131_44 rfl (zs_ra _) ?_
  refine zg_8_587 rfl d_8131_45 ((K8 _).trans k1) ?_
  refine zu_iconst d_8131_48 zi_0 ?_
  obtain ⟨b9, e10, h⟩ := h
  refine zs_stk2 (zs_rfe e10) ?_
  obtain ⟨k11, h⟩ := h
  obtain ⟨k12, h⟩ := h
  refine zu_iast (k := 0) d_8131_49 rfl rfl k12 (zs_Ak K8 k11) ?_
  generalize e14 : zs_si S6 b9 (zs_I S6 8069 p0).toNatClampNeg (0 : Int32) = S13
  have h := h S13 e14.symm
  have K15 : ∀ b, zs_K S13 b = zs_K S b := zs_Kt e14 (zs_Ksi _ _ _ _) K8
  refine zu_aload_n d_8131_50 rfl (zs_ra _) ?_
  refine zg_8_151 rfl d_8131_51 ((K15 _).trans k1) ?_
  refine zu_aload_n d_8131_54 rfl (zs_ra _) ?_
  refine zg_8_587 rfl d_8131_55 ((K15 _).trans k1) ?_
  refine zu_iconst d_8131_58 zi_0 ?_
  obtain ⟨b16, e17, h⟩ := h
  refine zs_stk2 (zs_rfe e17) ?_
  obtain ⟨k18, h⟩ := h
  obtain ⟨k19, h⟩ := h
  refine zu_bast_bool (k := 2) d_8131_59 rfl rfl k19 (zs_Ak K15 k18) ?_
  generalize e21 : zs_si S13 b16 (zs_I S13 8069 p0).toNatClampNeg (vp_nar .boolean (0 : Int32)) = S20
  have h := h S20 e21.symm
  have K22 : ∀ b, zs_K S20 b = zs_K S b := zs_Kt e21 (zs_Ksi _ _ _ _) K15
  exact (u_X9_newField_60 hB h).weak ⟨rfl, rfl, rfl, trivial⟩
def w_X9_newField (X : zs_X) (d : Nat) (p0 : Nat) (p1 : Int32) (p2 : Int32) (p3 : Int32) (p4 : Int32) (S : zs_T) (Q : zs_Q) : Prop :=
  (zs_K S p0 = some (.inl 8) ∧ ab_n0 X.1 ≤ p0 ∧ ∀ S3, S3 = zs_sI S 8069 p0 ((zs_I S 8069 p0) + (1 : Int32)) → ∃ b6, (zs_R S3 8064 p0) = some b6 ∧ zs_A S b6 0 (zs_I S3 8069 p0) ∧ ab_n0 X.1 ≤ b6 ∧ ∀ S10, S10 = zs_si S3 b6 (zs_I S3 8069 p0).toNatClampNeg p2 → ∃ b13, (zs_R S10 8065 p0) = some b13 ∧ zs_A S b13 0 (zs_I S10 8069 p0) ∧ ab_n0 X.1 ≤ b13 ∧ ∀ S17, S17 = zs_si S10 b13 (zs_I S10 8069 p0).toNatClampNeg (0 : Int32) → w_X9_newField_30 X d p0 p1 p3 p4 S17 Q)
theorem u_X9_newField {σ : Nat → Nat} {n0 : Nat} {bf : ab_B} {d : Nat} {p0 : Nat} {p1 : Int32} {p2 : Int32} {p3 : Int32} {p4 : Int32} {S : zs_T} {Q : zs_Q} (hB : zt_B bf) (hd : 1 ≤ d) (h : w_X9_newField (zx σ n0 bf) (d - 1) p0 p1 p2 p3 p4 S Q) : zs_C (zx σ n0 bf) d 8131 [.ref p0, .int p1, .int p2, .int p3, .int p4] S Q := by
  have hL : lv_args 0 [.ref p0, .int p1, .int p2, .int p3, .int p4] = [(0, .ref p0), (1, .int p1), (2, .int p2), (3, .int p3), (4, .int p4)] := rfl
  refine zs_C.of1 (hB.2 8131 (by decide) (by decide)) hd (by rw [hL]; exact zs_sub_self _ (by exact ⟨rfl, rfl, rfl, rfl, rfl, trivial⟩)) ?_
  rw [hL]
  clear hL
  unfold w_X9_newField at h
  refine zu_aload_n d_8131_0 rfl (zs_ra _) ?_
  refine zu_dup d_8131_1 rfl ?_
  obtain ⟨k1, h⟩ := h
  refine zg_8_587 rfl d_8131_2 k1 ?_
  refine zu_iconst d_8131_5 zi_1 ?_
  refine zu_stk d_8131_6 rfl rfl ?_
  obtain ⟨k2, h⟩ := h
  refine zp_8_587 (v := ((zs_I S 8069 p0) + (1 : Int32))) rfl d_8131_7 k1 k2 ?_
  generalize e4 : zs_sI S 8069 p0 ((zs_I S 8069 p0) + (1 : Int32)) = S3
  have h := h S3 e4.symm
  have K5 : ∀ b, zs_K S3 b = zs_K S b := zs_Kt e4 (zs_KsI _ _ _ _) (fun _ => rfl)
  refine zu_aload_n d_8131_10 rfl (zs_ra _) ?_
  refine zg_8_139 rfl d_8131_11 ((K5 _).trans k1) ?_
  refine zu_aload_n d_8131_14 rfl (zs_ra _) ?_
  refine zg_8_587 rfl d_8131_15 ((K5 _).trans k1) ?_
  refine zu_iload_n d_8131_18 rfl ?_
  obtain ⟨b6, e7, h⟩ := h
  refine zs_stk2 (zs_rfe e7) ?_
  obtain ⟨k8, h⟩ := h
  obtain ⟨k9, h⟩ := h
  refine zu_iast (k := 0) d_8131_19 rfl rfl k9 (zs_Ak K5 k8) ?_
  generalize e11 : zs_si S3 b6 (zs_I S3 8069 p0).toNatClampNeg p2 = S10
  have h := h S10 e11.symm
  have K12 : ∀ b, zs_K S10 b = zs_K S b := zs_Kt e11 (zs_Ksi _ _ _ _) K5
  refine zu_aload_n d_8131_20 rfl (zs_ra _) ?_
  refine zg_8_142 rfl d_8131_21 ((K12 _).trans k1) ?_
  refine zu_aload_n d_8131_24 rfl (zs_ra _) ?_
  refine zg_8_587 rfl d_8131_25 ((K12 _).trans k1) ?_
  refine zu_iconst d_8131_28 zi_0 ?_
  obtain ⟨b13, e14, h⟩ := h
  refine zs_stk2 (zs_rfe e14) ?_
  obtain ⟨k15, h⟩ := h
  obtain ⟨k16, h⟩ := h
  refine zu_iast (k := 0) d_8131_29 rfl rfl k16 (zs_Ak K12 k15) ?_
  generalize e18 : zs_si S10 b13 (zs_I S10 8069 p0).toNatClampNeg (0 : Int32) = S17
  have h := h S17 e18.symm
  have K19 : ∀ b, zs_K S17 b = zs_K S b := zs_Kt e18 (zs_Ksi _ _ _ _) K12
  exact (u_X9_newField_30 hB h).weak ⟨rfl, rfl, rfl, rfl, trivial⟩
/-! SchemaPascalModel.tagged(III)V -/
theorem zm_8132 {σ : Nat → Nat} {n0 : Nat} {bf : ab_B} : ab_code (zx σ n0 bf).1 8132 = prog_17_method_129_code := rfl
theorem zq_8132 {σ : Nat → Nat} {n0 : Nat} {bf : ab_B} : ab_maxL (zx σ n0 bf).1 8132 = 6 := rfl
theorem zr_8132 {σ : Nat → Nat} {n0 : Nat} {bf : ab_B} : ab_ret (zx σ n0 bf).1 8132 = (Option.none : Option Jvm.ClassFile.FieldType) := rfl
theorem d_8132_0 {σ : Nat → Nat} {n0 : Nat} {bf : ab_B} : decode (ab_code (zx σ n0 bf).1 8132) 0 = .ok (.aload_n 0, 1) := zd zm_8132 (by decide +kernel)
theorem d_8132_1 {σ : Nat → Nat} {n0 : Nat} {bf : ab_B} : decode (ab_code (zx σ n0 bf).1 8132) 1 = .ok (.iload_n 1, 1) := zd zm_8132 (by decide +kernel)
theorem d_8132_2 {σ : Nat → Nat} {n0 : Nat} {bf : ab_B} : decode (ab_code (zx σ n0 bf).1 8132) 2 = .ok (.invokevirtual 893, 3) := zd zm_8132 (by decide +kernel)
theorem d_8132_5 {σ : Nat → Nat} {n0 : Nat} {bf : ab_B} : decode (ab_code (zx σ n0 bf).1 8132) 5 = .ok (.ifCond .ne 4, 3) := zd zm_8132 (by decide +kernel)
theorem d_8132_8 {σ : Nat → Nat} {n0 : Nat} {bf : ab_B} : decode (ab_code (zx σ n0 bf).1 8132) 8 = .ok (.return_, 1) := zd zm_8132 (by decide +kernel)
theorem d_8132_9 {σ : Nat → Nat} {n0 : Nat} {bf : ab_B} : decode (ab_code (zx σ n0 bf).1 8132) 9 = .ok (.aload_n 0, 1) := zd zm_8132 (by decide +kernel)
theorem d_8132_10 {σ : Nat → Nat} {n0 : Nat} {bf : ab_B} : decode (ab_code (zx σ n0 bf).1 8132) 10 = .ok (.iload_n 1, 1) := zd zm_8132 (by decide +kernel)
theorem d_8132_11 {σ : Nat → Nat} {n0 : Nat} {bf : ab_B} : decode (ab_code (zx σ n0 bf).1 8132) 11 = .ok (.aload_n 0, 1) := zd zm_8132 (by decide +kernel)
theorem d_8132_12 {σ : Nat → Nat} {n0 : Nat} {bf : ab_B} : decode (ab_code (zx σ n0 bf).1 8132) 12 = .ok (.getfield 494, 3) := zd zm_8132 (by decide +kernel)
theorem d_8132_15 {σ : Nat → Nat} {n0 : Nat} {bf : ab_B} : decode (ab_code (zx σ n0 bf).1 8132) 15 = .ok (.iload_n 2, 1) := zd zm_8132 (by decide +kernel)
theorem d_8132_16 {σ : Nat → Nat} {n0 : Nat} {bf : ab_B} : decode (ab_code (zx σ n0 bf).1 8132) 16 = .ok (.iload_n 3, 1) := zd zm_8132 (by decide +kernel)
theorem d_8132_17 {σ : Nat → Nat} {n0 : Nat} {bf : ab_B} : decode (ab_code (zx σ n0 bf).1 8132) 17 = .ok (.invokevirtual 896, 3) := zd zm_8132 (by decide +kernel)
theorem d_8132_20 {σ : Nat → Nat} {n0 : Nat} {bf : ab_B} : decode (ab_code (zx σ n0 bf).1 8132) 20 = .ok (.istore 4, 2) := zd zm_8132 (by decide +kernel)
theorem d_8132_22 {σ : Nat → Nat} {n0 : Nat} {bf : ab_B} : decode (ab_code (zx σ n0 bf).1 8132) 22 = .ok (.aload_n 0, 1) := zd zm_8132 (by decide +kernel)
theorem d_8132_23 {σ : Nat → Nat} {n0 : Nat} {bf : ab_B} : decode (ab_code (zx σ n0 bf).1 8132) 23 = .ok (.getfield 151, 3) := zd zm_8132 (by decide +kernel)
theorem d_8132_26 {σ : Nat → Nat} {n0 : Nat} {bf : ab_B} : decode (ab_code (zx σ n0 bf).1 8132) 26 = .ok (.iload 4, 2) := zd zm_8132 (by decide +kernel)
theorem d_8132_28 {σ : Nat → Nat} {n0 : Nat} {bf : ab_B} : decode (ab_code (zx σ n0 bf).1 8132) 28 = .ok (.iconst 1, 1) := zd zm_8132 (by decide +kernel)
theorem d_8132_29 {σ : Nat → Nat} {n0 : Nat} {bf : ab_B} : decode (ab_code (zx σ n0 bf).1 8132) 29 = .ok (.bastore, 1) := zd zm_8132 (by decide +kernel)
theorem d_8132_30 {σ : Nat → Nat} {n0 : Nat} {bf : ab_B} : decode (ab_code (zx σ n0 bf).1 8132) 30 = .ok (.aload_n 0, 1) := zd zm_8132 (by decide +kernel)
theorem d_8132_31 {σ : Nat → Nat} {n0 : Nat} {bf : ab_B} : decode (ab_code (zx σ n0 bf).1 8132) 31 = .ok (.invokevirtual 538, 3) := zd zm_8132 (by decide +kernel)
theorem d_8132_34 {σ : Nat → Nat} {n0 : Nat} {bf : ab_B} : decode (ab_code (zx σ n0 bf).1 8132) 34 = .ok (.aload_n 0, 1) := zd zm_8132 (by decide +kernel)
theorem d_8132_35 {σ : Nat → Nat} {n0 : Nat} {bf : ab_B} : decode (ab_code (zx σ n0 bf).1 8132) 35 = .ok (.bipush 14, 2) := zd zm_8132 (by decide +kernel)
theorem d_8132_37 {σ : Nat → Nat} {n0 : Nat} {bf : ab_B} : decode (ab_code (zx σ n0 bf).1 8132) 37 = .ok (.invokevirtual 746, 3) := zd zm_8132 (by decide +kernel)
theorem d_8132_40 {σ : Nat → Nat} {n0 : Nat} {bf : ab_B} : decode (ab_code (zx σ n0 bf).1 8132) 40 = .ok (.aload_n 0, 1) := zd zm_8132 (by decide +kernel)
theorem d_8132_41 {σ : Nat → Nat} {n0 : Nat} {bf : ab_B} : decode (ab_code (zx σ n0 bf).1 8132) 41 = .ok (.iconst 0, 1) := zd zm_8132 (by decide +kernel)
theorem d_8132_42 {σ : Nat → Nat} {n0 : Nat} {bf : ab_B} : decode (ab_code (zx σ n0 bf).1 8132) 42 = .ok (.invokevirtual 905, 3) := zd zm_8132 (by decide +kernel)
theorem d_8132_45 {σ : Nat → Nat} {n0 : Nat} {bf : ab_B} : decode (ab_code (zx σ n0 bf).1 8132) 45 = .ok (.istore 5, 2) := zd zm_8132 (by decide +kernel)
theorem d_8132_47 {σ : Nat → Nat} {n0 : Nat} {bf : ab_B} : decode (ab_code (zx σ n0 bf).1 8132) 47 = .ok (.aload_n 0, 1) := zd zm_8132 (by decide +kernel)
theorem d_8132_48 {σ : Nat → Nat} {n0 : Nat} {bf : ab_B} : decode (ab_code (zx σ n0 bf).1 8132) 48 = .ok (.getfield 444, 3) := zd zm_8132 (by decide +kernel)
theorem d_8132_51 {σ : Nat → Nat} {n0 : Nat} {bf : ab_B} : decode (ab_code (zx σ n0 bf).1 8132) 51 = .ok (.ifCond .ne 17, 3) := zd zm_8132 (by decide +kernel)
theorem d_8132_54 {σ : Nat → Nat} {n0 : Nat} {bf : ab_B} : decode (ab_code (zx σ n0 bf).1 8132) 54 = .ok (.aload_n 0, 1) := zd zm_8132 (by decide +kernel)
theorem d_8132_55 {σ : Nat → Nat} {n0 : Nat} {bf : ab_B} : decode (ab_code (zx σ n0 bf).1 8132) 55 = .ok (.iload 5, 2) := zd zm_8132 (by decide +kernel)
theorem d_8132_57 {σ : Nat → Nat} {n0 : Nat} {bf : ab_B} : decode (ab_code (zx σ n0 bf).1 8132) 57 = .ok (.invokevirtual 564, 3) := zd zm_8132 (by decide +kernel)
theorem d_8132_60 {σ : Nat → Nat} {n0 : Nat} {bf : ab_B} : decode (ab_code (zx σ n0 bf).1 8132) 60 = .ok (.ifCond .ne 8, 3) := zd zm_8132 (by decide +kernel)
theorem d_8132_63 {σ : Nat → Nat} {n0 : Nat} {bf : ab_B} : decode (ab_code (zx σ n0 bf).1 8132) 63 = .ok (.aload_n 0, 1) := zd zm_8132 (by decide +kernel)
theorem d_8132_64 {σ : Nat → Nat} {n0 : Nat} {bf : ab_B} : decode (ab_code (zx σ n0 bf).1 8132) 64 = .ok (.iconst 5, 1) := zd zm_8132 (by decide +kernel)
theorem d_8132_65 {σ : Nat → Nat} {n0 : Nat} {bf : ab_B} : decode (ab_code (zx σ n0 bf).1 8132) 65 = .ok (.invokevirtual 541, 3) := zd zm_8132 (by decide +kernel)
theorem d_8132_68 {σ : Nat → Nat} {n0 : Nat} {bf : ab_B} : decode (ab_code (zx σ n0 bf).1 8132) 68 = .ok (.aload_n 0, 1) := zd zm_8132 (by decide +kernel)
theorem d_8132_69 {σ : Nat → Nat} {n0 : Nat} {bf : ab_B} : decode (ab_code (zx σ n0 bf).1 8132) 69 = .ok (.getfield 142, 3) := zd zm_8132 (by decide +kernel)
theorem d_8132_72 {σ : Nat → Nat} {n0 : Nat} {bf : ab_B} : decode (ab_code (zx σ n0 bf).1 8132) 72 = .ok (.iload 4, 2) := zd zm_8132 (by decide +kernel)
theorem d_8132_74 {σ : Nat → Nat} {n0 : Nat} {bf : ab_B} : decode (ab_code (zx σ n0 bf).1 8132) 74 = .ok (.iload 5, 2) := zd zm_8132 (by decide +kernel)
theorem d_8132_76 {σ : Nat → Nat} {n0 : Nat} {bf : ab_B} : decode (ab_code (zx σ n0 bf).1 8132) 76 = .ok (.iastore, 1) := zd zm_8132 (by decide +kernel)
theorem d_8132_77 {σ : Nat → Nat} {n0 : Nat} {bf : ab_B} : decode (ab_code (zx σ n0 bf).1 8132) 77 = .ok (.aload_n 0, 1) := zd zm_8132 (by decide +kernel)
theorem d_8132_78 {σ : Nat → Nat} {n0 : Nat} {bf : ab_B} : decode (ab_code (zx σ n0 bf).1 8132) 78 = .ok (.iload_n 1, 1) := zd zm_8132 (by decide +kernel)
theorem d_8132_79 {σ : Nat → Nat} {n0 : Nat} {bf : ab_B} : decode (ab_code (zx σ n0 bf).1 8132) 79 = .ok (.iconst 1, 1) := zd zm_8132 (by decide +kernel)
theorem d_8132_80 {σ : Nat → Nat} {n0 : Nat} {bf : ab_B} : decode (ab_code (zx σ n0 bf).1 8132) 80 = .ok (.iconst 1, 1) := zd zm_8132 (by decide +kernel)
theorem d_8132_81 {σ : Nat → Nat} {n0 : Nat} {bf : ab_B} : decode (ab_code (zx σ n0 bf).1 8132) 81 = .ok (.invokevirtual 902, 3) := zd zm_8132 (by decide +kernel)
theorem d_8132_84 {σ : Nat → Nat} {n0 : Nat} {bf : ab_B} : decode (ab_code (zx σ n0 bf).1 8132) 84 = .ok (.aload_n 0, 1) := zd zm_8132 (by decide +kernel)
theorem d_8132_85 {σ : Nat → Nat} {n0 : Nat} {bf : ab_B} : decode (ab_code (zx σ n0 bf).1 8132) 85 = .ok (.bipush 21, 2) := zd zm_8132 (by decide +kernel)
theorem d_8132_87 {σ : Nat → Nat} {n0 : Nat} {bf : ab_B} : decode (ab_code (zx σ n0 bf).1 8132) 87 = .ok (.invokevirtual 846, 3) := zd zm_8132 (by decide +kernel)
theorem d_8132_90 {σ : Nat → Nat} {n0 : Nat} {bf : ab_B} : decode (ab_code (zx σ n0 bf).1 8132) 90 = .ok (.aload_n 0, 1) := zd zm_8132 (by decide +kernel)
theorem d_8132_91 {σ : Nat → Nat} {n0 : Nat} {bf : ab_B} : decode (ab_code (zx σ n0 bf).1 8132) 91 = .ok (.bipush 41, 2) := zd zm_8132 (by decide +kernel)
theorem d_8132_93 {σ : Nat → Nat} {n0 : Nat} {bf : ab_B} : decode (ab_code (zx σ n0 bf).1 8132) 93 = .ok (.iload_n 1, 1) := zd zm_8132 (by decide +kernel)
theorem d_8132_94 {σ : Nat → Nat} {n0 : Nat} {bf : ab_B} : decode (ab_code (zx σ n0 bf).1 8132) 94 = .ok (.iload 4, 2) := zd zm_8132 (by decide +kernel)
theorem d_8132_96 {σ : Nat → Nat} {n0 : Nat} {bf : ab_B} : decode (ab_code (zx σ n0 bf).1 8132) 96 = .ok (.iconst 0, 1) := zd zm_8132 (by decide +kernel)
theorem d_8132_97 {σ : Nat → Nat} {n0 : Nat} {bf : ab_B} : decode (ab_code (zx σ n0 bf).1 8132) 97 = .ok (.invokevirtual 649, 3) := zd zm_8132 (by decide +kernel)
theorem d_8132_100 {σ : Nat → Nat} {n0 : Nat} {bf : ab_B} : decode (ab_code (zx σ n0 bf).1 8132) 100 = .ok (.return_, 1) := zd zm_8132 (by decide +kernel)
def w_X9_tagged_100 (X : zs_X) (d : Nat)  (S : zs_T) (Q : zs_Q) : Prop :=
  (Q (.returned none) S)
theorem u_X9_tagged_100 {σ : Nat → Nat} {n0 : Nat} {bf : ab_B} {d : Nat}  {S : zs_T} {Q : zs_Q} (hB : zt_B bf) (h : w_X9_tagged_100 (zx σ n0 bf) d  S Q) : zs_U (zx σ n0 bf) d 8132 100 [] [] S Q := by
  unfold w_X9_tagged_100 at h
  exact zu_vret d_8132_100 zr_8132 h
def w_X9_tagged_68 (X : zs_X) (d : Nat) (p0 : Nat) (p1 : Int32) (p4 : Int32) (p5 : Int32) (S : zs_T) (Q : zs_Q) : Prop :=
  (zs_K S p0 = some (.inl 8) ∧ ∃ b2, (zs_R S 8065 p0) = some b2 ∧ zs_A S b2 0 p4 ∧ ab_n0 X.1 ≤ b2 ∧ ∀ S6, S6 = zs_si S b2 p4.toNatClampNeg p5 → zs_C X d 8134 [.ref p0, .int p1, .int (1 : Int32), .int (1 : Int32)] S6 (zs_kV (fun S9 => (zs_K S9 p0 = some (.inl 8) ∧ zs_C X d 8025 [.ref p0, .int (21 : Int32)] S9 (zs_kV (fun S12 => (zs_K S12 p0 = some (.inl 8) ∧ zs_C X d 8030 [.ref p0, .int (41 : Int32), .int p1, .int p4, .int (0 : Int32)] S12 (zs_kV (fun S15 => w_X9_tagged_100 X d  S15 Q) Q))) Q))) Q))
theorem u_X9_tagged_68 {σ : Nat → Nat} {n0 : Nat} {bf : ab_B} {d : Nat} {p0 : Nat} {p1 : Int32} {p4 : Int32} {p5 : Int32} {S : zs_T} {Q : zs_Q} (hB : zt_B bf) (h : w_X9_tagged_68 (zx σ n0 bf) d p0 p1 p4 p5 S Q) : zs_U (zx σ n0 bf) d 8132 68 [(0, .ref p0), (1, .int p1), (4, .int p4), (5, .int p5)] [] S Q := by
  unfold w_X9_tagged_68 at h
  refine zu_aload_n d_8132_68 rfl (zs_ra _) ?_
  obtain ⟨k1, h⟩ := h
  refine zg_8_142 rfl d_8132_69 k1 ?_
  refine zu_iload d_8132_72 rfl ?_
  refine zu_iload d_8132_74 rfl ?_
  obtain ⟨b2, e3, h⟩ := h
  refine zs_stk2 (zs_rfe e3) ?_
  obtain ⟨k4, h⟩ := h
  obtain ⟨k5, h⟩ := h
  refine zu_iast (k := 0) d_8132_76 rfl rfl k5 k4 ?_
  generalize e7 : zs_si S b2 p4.toNatClampNeg p5 = S6
  have h := h S6 e7.symm
  have K8 : ∀ b, zs_K S6 b = zs_K S b := zs_Kt e7 (zs_Ksi _ _ _ _) (fun _ => rfl)
  refine zu_aload_n d_8132_77 rfl (zs_ra _) ?_
  refine zu_iload_n d_8132_78 rfl ?_
  refine zu_iconst d_8132_79 zi_1 ?_
  refine zu_iconst d_8132_80 zi_1 ?_
  refine zc_8_902 (x0 := p1) (x1 := (1 : Int32)) (x2 := (1 : Int32)) hB rfl ((K8 _).trans k1) d_8132_81 (Nat.le_of_ble_eq_true rfl) h (fun S9 h => ?_)
  refine zu_aload_n d_8132_84 rfl (zs_ra _) ?_
  refine zu_bipush d_8132_85 zj_21 ?_
  obtain ⟨k11, h⟩ := h
  refine zc_8_846 (x0 := (21 : Int32)) hB rfl k11 d_8132_87 (Nat.le_of_ble_eq_true rfl) h (fun S12 h => ?_)
  refine zu_aload_n d_8132_90 rfl (zs_ra _) ?_
  refine zu_bipush d_8132_91 zj_41 ?_
  refine zu_iload_n d_8132_93 rfl ?_
  refine zu_iload d_8132_94 rfl ?_
  refine zu_iconst d_8132_96 zi_0 ?_
  obtain ⟨k14, h⟩ := h
  refine zc_8_649 (x0 := (41 : Int32)) (x1 := p1) (x2 := p4) (x3 := (0 : Int32)) hB rfl k14 d_8132_97 (Nat.le_of_ble_eq_true rfl) h (fun S15 h => ?_)
  exact (u_X9_tagged_100 hB h).weak trivial
def w_X9_tagged_63 (X : zs_X) (d : Nat) (p0 : Nat) (p1 : Int32) (p4 : Int32) (p5 : Int32) (S : zs_T) (Q : zs_Q) : Prop :=
  (zs_K S p0 = some (.inl 8) ∧ zs_C X d 8027 [.ref p0, .int (5 : Int32)] S (zs_kV (fun S2 => w_X9_tagged_68 X d p0 p1 p4 p5 S2 Q) Q))
theorem u_X9_tagged_63 {σ : Nat → Nat} {n0 : Nat} {bf : ab_B} {d : Nat} {p0 : Nat} {p1 : Int32} {p4 : Int32} {p5 : Int32} {S : zs_T} {Q : zs_Q} (hB : zt_B bf) (h : w_X9_tagged_63 (zx σ n0 bf) d p0 p1 p4 p5 S Q) : zs_U (zx σ n0 bf) d 8132 63 [(0, .ref p0), (1, .int p1), (4, .int p4), (5, .int p5)] [] S Q := by
  unfold w_X9_tagged_63 at h
  refine zu_aload_n d_8132_63 rfl (zs_ra _) ?_
  refine zu_iconst d_8132_64 zi_5 ?_
  obtain ⟨k1, h⟩ := h
  refine zc_8_541 (x0 := (5 : Int32)) hB rfl k1 d_8132_65 (Nat.le_of_ble_eq_true rfl) h (fun S2 h => ?_)
  exact (u_X9_tagged_68 hB h).weak ⟨rfl, rfl, rfl, rfl, trivial⟩
def w_X9_tagged_30 (X : zs_X) (d : Nat) (p0 : Nat) (p1 : Int32) (p4 : Int32) (S : zs_T) (Q : zs_Q) : Prop :=
  (zs_K S p0 = some (.inl 8) ∧ zs_C X d 8014 [.ref p0] S (zs_kV (fun S2 => (zs_K S2 p0 = some (.inl 8) ∧ zs_C X d 8028 [.ref p0, .int (14 : Int32)] S2 (zs_kV (fun S5 => (zs_K S5 p0 = some (.inl 8) ∧ zs_C X d 8133 [.ref p0, .int (0 : Int32)] S5 (zs_kI (fun v9 S8 => (zs_K S8 p0 = some (.inl 8) ∧ ((¬ (zs_I S8 8010 p0) = 0 → w_X9_tagged_68 X d p0 p1 p4 v9 S8 Q) ∧ (¬ (¬ (zs_I S8 8010 p0) = 0) → (zs_C X d 8036 [.ref p0, .int v9] S8 (zs_kI (fun v13 S12 => (((¬ v13 = 0 → w_X9_tagged_68 X d p0 p1 p4 v9 S12 Q) ∧ (¬ (¬ v13 = 0) → w_X9_tagged_63 X d p0 p1 p4 v9 S12 Q)))) Q)))))) Q))) Q))) Q))
theorem u_X9_tagged_30 {σ : Nat → Nat} {n0 : Nat} {bf : ab_B} {d : Nat} {p0 : Nat} {p1 : Int32} {p4 : Int32} {S : zs_T} {Q : zs_Q} (hB : zt_B bf) (h : w_X9_tagged_30 (zx σ n0 bf) d p0 p1 p4 S Q) : zs_U (zx σ n0 bf) d 8132 30 [(0, .ref p0), (1, .int p1), (4, .int p4)] [] S Q := by
  unfold w_X9_tagged_30 at h
  refine zu_aload_n d_8132_30 rfl (zs_ra _) ?_
  obtain ⟨k1, h⟩ := h
  refine zc_8_538  hB rfl k1 d_8132_31 (Nat.le_of_ble_eq_true rfl) h (fun S2 h => ?_)
  refine zu_aload_n d_8132_34 rfl (zs_ra _) ?_
  refine zu_bipush d_8132_35 zj_14 ?_
  obtain ⟨k4, h⟩ := h
  refine zc_8_746 (x0 := (14 : Int32)) hB rfl k4 d_8132_37 (Nat.le_of_ble_eq_true rfl) h (fun S5 h => ?_)
  refine zu_aload_n d_8132_40 rfl (zs_ra _) ?_
  refine zu_iconst d_8132_41 zi_0 ?_
  obtain ⟨k7, h⟩ := h
  refine zc_8_905 (x0 := (0 : Int32)) hB rfl k7 d_8132_42 (Nat.le_of_ble_eq_true rfl) h (fun v9 S8 h => ?_)
  refine zu_istore d_8132_45 (zs_lt zq_8132 rfl) ?_
  refine zu_aload_n d_8132_47 rfl (zs_ra _) ?_
  obtain ⟨k10, h⟩ := h
  refine zg_8_444 rfl d_8132_48 k10 ?_
  refine zu_ifne (t := 68) d_8132_51 rfl (fun c11 => ?_) (fun c11 => ?_)
  · have h := h.1 c11
    exact (u_X9_tagged_68 hB h).weak ⟨rfl, rfl, rfl, rfl, trivial⟩
  · have h := h.2 c11
    refine zu_aload_n d_8132_54 rfl (zs_ra _) ?_
    refine zu_iload d_8132_55 rfl ?_
    refine zc_8_564 (x0 := v9) hB rfl k10 d_8132_57 (Nat.le_of_ble_eq_true rfl) h (fun v13 S12 h => ?_)
    refine zu_ifne (t := 68) d_8132_60 rfl (fun c14 => ?_) (fun c14 => ?_)
    · have h := h.1 c14
      exact (u_X9_tagged_68 hB h).weak ⟨rfl, rfl, rfl, rfl, trivial⟩
    · have h := h.2 c14
      exact (u_X9_tagged_63 hB h).weak ⟨rfl, rfl, rfl, rfl, trivial⟩
def w_X9_tagged (X : zs_X) (d : Nat) (p0 : Nat) (p1 : Int32) (p2 : Int32) (p3 : Int32) (S : zs_T) (Q : zs_Q) : Prop :=
  (zs_K S p0 = some (.inl 8) ∧ zs_C X d 8130 [.ref p0, .int p1] S (zs_kI (fun v3 S2 => (((¬ v3 = 0 → (zs_K S2 p0 = some (.inl 8) ∧ zs_C X d 8131 [.ref p0, .int p1, .int (zs_I S2 8009 p0), .int p2, .int p3] S2 (zs_kI (fun v7 S6 => (zs_K S6 p0 = some (.inl 8) ∧ ∃ b9, (zs_R S6 8068 p0) = some b9 ∧ zs_A S6 b9 2 v7 ∧ ab_n0 X.1 ≤ b9 ∧ ∀ S13, S13 = zs_si S6 b9 v7.toNatClampNeg (vp_nar .boolean (1 : Int32)) → w_X9_tagged_30 X d p0 p1 v7 S13 Q)) Q))) ∧ (¬ (¬ v3 = 0) → (Q (.returned none) S2))))) Q))
theorem u_X9_tagged {σ : Nat → Nat} {n0 : Nat} {bf : ab_B} {d : Nat} {p0 : Nat} {p1 : Int32} {p2 : Int32} {p3 : Int32} {S : zs_T} {Q : zs_Q} (hB : zt_B bf) (hd : 1 ≤ d) (h : w_X9_tagged (zx σ n0 bf) (d - 1) p0 p1 p2 p3 S Q) : zs_C (zx σ n0 bf) d 8132 [.ref p0, .int p1, .int p2, .int p3] S Q := by
  have hL : lv_args 0 [.ref p0, .int p1, .int p2, .int p3] = [(0, .ref p0), (1, .int p1), (2, .int p2), (3, .int p3)] := rfl
  refine zs_C.of1 (hB.2 8132 (by decide) (by decide)) hd (by rw [hL]; exact zs_sub_self _ (by exact ⟨rfl, rfl, rfl, rfl, trivial⟩)) ?_
  rw [hL]
  clear hL
  unfold w_X9_tagged at h
  refine zu_aload_n d_8132_0 rfl (zs_ra _) ?_
  refine zu_iload_n d_8132_1 rfl ?_
  obtain ⟨k1, h⟩ := h
  refine zc_8_893 (x0 := p1) hB rfl k1 d_8132_2 (Nat.le_of_ble_eq_true rfl) h (fun v3 S2 h => ?_)
  refine zu_ifne (t := 9) d_8132_5 rfl (fun c4 => ?_) (fun c4 => ?_)
  · have h := h.1 c4
    refine zu_aload_n d_8132_9 rfl (zs_ra _) ?_
    refine zu_iload_n d_8132_10 rfl ?_
    refine zu_aload_n d_8132_11 rfl (zs_ra _) ?_
    obtain ⟨k5, h⟩ := h
    refine zg_8_494 rfl d_8132_12 k5 ?_
    refine zu_iload_n d_8132_15 rfl ?_
    refine zu_iload_n d_8132_16 rfl ?_
    refine zc_8_896 (x0 := p1) (x1 := (zs_I S2 8009 p0)) (x2 := p2) (x3 := p3) hB rfl k5 d_8132_17 (Nat.le_of_ble_eq_true rfl) h (fun v7 S6 h => ?_)
    refine zu_istore d_8132_20 (zs_lt zq_8132 rfl) ?_
    refine zu_aload_n d_8132_22 rfl (zs_ra _) ?_
    obtain ⟨k8, h⟩ := h
    refine zg_8_151 rfl d_8132_23 k8 ?_
    refine zu_iload d_8132_26 rfl ?_
    refine zu_iconst d_8132_28 zi_1 ?_
    obtain ⟨b9, e10, h⟩ := h
    refine zs_stk2 (zs_rfe e10) ?_
    obtain ⟨k11, h⟩ := h
    obtain ⟨k12, h⟩ := h
    refine zu_bast_bool (k := 2) d_8132_29 rfl rfl k12 k11 ?_
    generalize e14 : zs_si S6 b9 v7.toNatClampNeg (vp_nar .boolean (1 : Int32)) = S13
    have h := h S13 e14.symm
    have K15 : ∀ b, zs_K S13 b = zs_K S6 b := zs_Kt e14 (zs_Ksi _ _ _ _) (fun _ => rfl)
    exact (u_X9_tagged_30 hB h).weak ⟨rfl, rfl, rfl, trivial⟩
  · have h := h.2 c4
    exact zu_vret d_8132_8 zr_8132 h
/-! SchemaPascalModel.typeName(Z)I -/
theorem zm_8133 {σ : Nat → Nat} {n0 : Nat} {bf : ab_B} : ab_code (zx σ n0 bf).1 8133 = prog_17_method_130_code := rfl
theorem zq_8133 {σ : Nat → Nat} {n0 : Nat} {bf : ab_B} : ab_maxL (zx σ n0 bf).1 8133 = 5 := rfl
theorem zr_8133 {σ : Nat → Nat} {n0 : Nat} {bf : ab_B} : ab_ret (zx σ n0 bf).1 8133 = (Option.some Jvm.ClassFile.FieldType.int) := rfl
theorem d_8133_0 {σ : Nat → Nat} {n0 : Nat} {bf : ab_B} : decode (ab_code (zx σ n0 bf).1 8133) 0 = .ok (.aload_n 0, 1) := zd zm_8133 (by decide +kernel)
theorem d_8133_1 {σ : Nat → Nat} {n0 : Nat} {bf : ab_B} : decode (ab_code (zx σ n0 bf).1 8133) 1 = .ok (.getfield 444, 3) := zd zm_8133 (by decide +kernel)
theorem d_8133_4 {σ : Nat → Nat} {n0 : Nat} {bf : ab_B} : decode (ab_code (zx σ n0 bf).1 8133) 4 = .ok (.ifCond .le 5, 3) := zd zm_8133 (by decide +kernel)
theorem d_8133_7 {σ : Nat → Nat} {n0 : Nat} {bf : ab_B} : decode (ab_code (zx σ n0 bf).1 8133) 7 = .ok (.iconst 0, 1) := zd zm_8133 (by decide +kernel)
theorem d_8133_8 {σ : Nat → Nat} {n0 : Nat} {bf : ab_B} : decode (ab_code (zx σ n0 bf).1 8133) 8 = .ok (.ireturn, 1) := zd zm_8133 (by decide +kernel)
theorem d_8133_9 {σ : Nat → Nat} {n0 : Nat} {bf : ab_B} : decode (ab_code (zx σ n0 bf).1 8133) 9 = .ok (.aload_n 0, 1) := zd zm_8133 (by decide +kernel)
theorem d_8133_10 {σ : Nat → Nat} {n0 : Nat} {bf : ab_B} : decode (ab_code (zx σ n0 bf).1 8133) 10 = .ok (.getfield 484, 3) := zd zm_8133 (by decide +kernel)
theorem d_8133_13 {σ : Nat → Nat} {n0 : Nat} {bf : ab_B} : decode (ab_code (zx σ n0 bf).1 8133) 13 = .ok (.iconst 1, 1) := zd zm_8133 (by decide +kernel)
theorem d_8133_14 {σ : Nat → Nat} {n0 : Nat} {bf : ab_B} : decode (ab_code (zx σ n0 bf).1 8133) 14 = .ok (.if_icmp .eq 10, 3) := zd zm_8133 (by decide +kernel)
theorem d_8133_17 {σ : Nat → Nat} {n0 : Nat} {bf : ab_B} : decode (ab_code (zx σ n0 bf).1 8133) 17 = .ok (.aload_n 0, 1) := zd zm_8133 (by decide +kernel)
theorem d_8133_18 {σ : Nat → Nat} {n0 : Nat} {bf : ab_B} : decode (ab_code (zx σ n0 bf).1 8133) 18 = .ok (.iconst 2, 1) := zd zm_8133 (by decide +kernel)
theorem d_8133_19 {σ : Nat → Nat} {n0 : Nat} {bf : ab_B} : decode (ab_code (zx σ n0 bf).1 8133) 19 = .ok (.invokevirtual 541, 3) := zd zm_8133 (by decide +kernel)
theorem d_8133_22 {σ : Nat → Nat} {n0 : Nat} {bf : ab_B} : decode (ab_code (zx σ n0 bf).1 8133) 22 = .ok (.iconst 0, 1) := zd zm_8133 (by decide +kernel)
theorem d_8133_23 {σ : Nat → Nat} {n0 : Nat} {bf : ab_B} : decode (ab_code (zx σ n0 bf).1 8133) 23 = .ok (.ireturn, 1) := zd zm_8133 (by decide +kernel)
theorem d_8133_24 {σ : Nat → Nat} {n0 : Nat} {bf : ab_B} : decode (ab_code (zx σ n0 bf).1 8133) 24 = .ok (.aload_n 0, 1) := zd zm_8133 (by decide +kernel)
theorem d_8133_25 {σ : Nat → Nat} {n0 : Nat} {bf : ab_B} : decode (ab_code (zx σ n0 bf).1 8133) 25 = .ok (.getfield 37, 3) := zd zm_8133 (by decide +kernel)
theorem d_8133_28 {σ : Nat → Nat} {n0 : Nat} {bf : ab_B} : decode (ab_code (zx σ n0 bf).1 8133) 28 = .ok (.aload_n 0, 1) := zd zm_8133 (by decide +kernel)
theorem d_8133_29 {σ : Nat → Nat} {n0 : Nat} {bf : ab_B} : decode (ab_code (zx σ n0 bf).1 8133) 29 = .ok (.getfield 494, 3) := zd zm_8133 (by decide +kernel)
theorem d_8133_32 {σ : Nat → Nat} {n0 : Nat} {bf : ab_B} : decode (ab_code (zx σ n0 bf).1 8133) 32 = .ok (.iaload, 1) := zd zm_8133 (by decide +kernel)
theorem d_8133_33 {σ : Nat → Nat} {n0 : Nat} {bf : ab_B} : decode (ab_code (zx σ n0 bf).1 8133) 33 = .ok (.istore_n 2, 1) := zd zm_8133 (by decide +kernel)
theorem d_8133_34 {σ : Nat → Nat} {n0 : Nat} {bf : ab_B} : decode (ab_code (zx σ n0 bf).1 8133) 34 = .ok (.iload_n 2, 1) := zd zm_8133 (by decide +kernel)
theorem d_8133_35 {σ : Nat → Nat} {n0 : Nat} {bf : ab_B} : decode (ab_code (zx σ n0 bf).1 8133) 35 = .ok (.ifCond .ne 7, 3) := zd zm_8133 (by decide +kernel)
theorem d_8133_38 {σ : Nat → Nat} {n0 : Nat} {bf : ab_B} : decode (ab_code (zx σ n0 bf).1 8133) 38 = .ok (.iconst 0, 1) := zd zm_8133 (by decide +kernel)
theorem d_8133_39 {σ : Nat → Nat} {n0 : Nat} {bf : ab_B} : decode (ab_code (zx σ n0 bf).1 8133) 39 = .ok (.goto 9, 3) := zd zm_8133 (by decide +kernel)
theorem d_8133_42 {σ : Nat → Nat} {n0 : Nat} {bf : ab_B} : decode (ab_code (zx σ n0 bf).1 8133) 42 = .ok (.aload_n 0, 1) := zd zm_8133 (by decide +kernel)
theorem d_8133_43 {σ : Nat → Nat} {n0 : Nat} {bf : ab_B} : decode (ab_code (zx σ n0 bf).1 8133) 43 = .ok (.getfield 44, 3) := zd zm_8133 (by decide +kernel)
theorem d_8133_46 {σ : Nat → Nat} {n0 : Nat} {bf : ab_B} : decode (ab_code (zx σ n0 bf).1 8133) 46 = .ok (.iload_n 2, 1) := zd zm_8133 (by decide +kernel)
theorem d_8133_47 {σ : Nat → Nat} {n0 : Nat} {bf : ab_B} : decode (ab_code (zx σ n0 bf).1 8133) 47 = .ok (.baload, 1) := zd zm_8133 (by decide +kernel)
theorem d_8133_48 {σ : Nat → Nat} {n0 : Nat} {bf : ab_B} : decode (ab_code (zx σ n0 bf).1 8133) 48 = .ok (.istore_n 3, 1) := zd zm_8133 (by decide +kernel)
theorem d_8133_49 {σ : Nat → Nat} {n0 : Nat} {bf : ab_B} : decode (ab_code (zx σ n0 bf).1 8133) 49 = .ok (.iload_n 3, 1) := zd zm_8133 (by decide +kernel)
theorem d_8133_50 {σ : Nat → Nat} {n0 : Nat} {bf : ab_B} : decode (ab_code (zx σ n0 bf).1 8133) 50 = .ok (.iconst 2, 1) := zd zm_8133 (by decide +kernel)
theorem d_8133_51 {σ : Nat → Nat} {n0 : Nat} {bf : ab_B} : decode (ab_code (zx σ n0 bf).1 8133) 51 = .ok (.if_icmp .eq 15, 3) := zd zm_8133 (by decide +kernel)
theorem d_8133_54 {σ : Nat → Nat} {n0 : Nat} {bf : ab_B} : decode (ab_code (zx σ n0 bf).1 8133) 54 = .ok (.iload_n 3, 1) := zd zm_8133 (by decide +kernel)
theorem d_8133_55 {σ : Nat → Nat} {n0 : Nat} {bf : ab_B} : decode (ab_code (zx σ n0 bf).1 8133) 55 = .ok (.iconst 3, 1) := zd zm_8133 (by decide +kernel)
theorem d_8133_56 {σ : Nat → Nat} {n0 : Nat} {bf : ab_B} : decode (ab_code (zx σ n0 bf).1 8133) 56 = .ok (.if_icmp .eq 10, 3) := zd zm_8133 (by decide +kernel)
theorem d_8133_59 {σ : Nat → Nat} {n0 : Nat} {bf : ab_B} : decode (ab_code (zx σ n0 bf).1 8133) 59 = .ok (.aload_n 0, 1) := zd zm_8133 (by decide +kernel)
theorem d_8133_60 {σ : Nat → Nat} {n0 : Nat} {bf : ab_B} : decode (ab_code (zx σ n0 bf).1 8133) 60 = .ok (.iconst 3, 1) := zd zm_8133 (by decide +kernel)
theorem d_8133_61 {σ : Nat → Nat} {n0 : Nat} {bf : ab_B} : decode (ab_code (zx σ n0 bf).1 8133) 61 = .ok (.invokevirtual 541, 3) := zd zm_8133 (by decide +kernel)
theorem d_8133_64 {σ : Nat → Nat} {n0 : Nat} {bf : ab_B} : decode (ab_code (zx σ n0 bf).1 8133) 64 = .ok (.iconst 0, 1) := zd zm_8133 (by decide +kernel)
theorem d_8133_65 {σ : Nat → Nat} {n0 : Nat} {bf : ab_B} : decode (ab_code (zx σ n0 bf).1 8133) 65 = .ok (.ireturn, 1) := zd zm_8133 (by decide +kernel)
theorem d_8133_66 {σ : Nat → Nat} {n0 : Nat} {bf : ab_B} : decode (ab_code (zx σ n0 bf).1 8133) 66 = .ok (.iload_n 3, 1) := zd zm_8133 (by decide +kernel)
theorem d_8133_67 {σ : Nat → Nat} {n0 : Nat} {bf : ab_B} : decode (ab_code (zx σ n0 bf).1 8133) 67 = .ok (.iconst 2, 1) := zd zm_8133 (by decide +kernel)
theorem d_8133_68 {σ : Nat → Nat} {n0 : Nat} {bf : ab_B} : decode (ab_code (zx σ n0 bf).1 8133) 68 = .ok (.if_icmp .ne 12, 3) := zd zm_8133 (by decide +kernel)
theorem d_8133_71 {σ : Nat → Nat} {n0 : Nat} {bf : ab_B} : decode (ab_code (zx σ n0 bf).1 8133) 71 = .ok (.aload_n 0, 1) := zd zm_8133 (by decide +kernel)
theorem d_8133_72 {σ : Nat → Nat} {n0 : Nat} {bf : ab_B} : decode (ab_code (zx σ n0 bf).1 8133) 72 = .ok (.getfield 50, 3) := zd zm_8133 (by decide +kernel)
theorem d_8133_75 {σ : Nat → Nat} {n0 : Nat} {bf : ab_B} : decode (ab_code (zx σ n0 bf).1 8133) 75 = .ok (.iload_n 2, 1) := zd zm_8133 (by decide +kernel)
theorem d_8133_76 {σ : Nat → Nat} {n0 : Nat} {bf : ab_B} : decode (ab_code (zx σ n0 bf).1 8133) 76 = .ok (.iaload, 1) := zd zm_8133 (by decide +kernel)
theorem d_8133_77 {σ : Nat → Nat} {n0 : Nat} {bf : ab_B} : decode (ab_code (zx σ n0 bf).1 8133) 77 = .ok (.goto 14, 3) := zd zm_8133 (by decide +kernel)
theorem d_8133_80 {σ : Nat → Nat} {n0 : Nat} {bf : ab_B} : decode (ab_code (zx σ n0 bf).1 8133) 80 = .ok (.aload_n 0, 1) := zd zm_8133 (by decide +kernel)
theorem d_8133_81 {σ : Nat → Nat} {n0 : Nat} {bf : ab_B} : decode (ab_code (zx σ n0 bf).1 8133) 81 = .ok (.getfield 248, 3) := zd zm_8133 (by decide +kernel)
theorem d_8133_84 {σ : Nat → Nat} {n0 : Nat} {bf : ab_B} : decode (ab_code (zx σ n0 bf).1 8133) 84 = .ok (.aload_n 0, 1) := zd zm_8133 (by decide +kernel)
theorem d_8133_85 {σ : Nat → Nat} {n0 : Nat} {bf : ab_B} : decode (ab_code (zx σ n0 bf).1 8133) 85 = .ok (.getfield 53, 3) := zd zm_8133 (by decide +kernel)
theorem d_8133_88 {σ : Nat → Nat} {n0 : Nat} {bf : ab_B} : decode (ab_code (zx σ n0 bf).1 8133) 88 = .ok (.iload_n 2, 1) := zd zm_8133 (by decide +kernel)
theorem d_8133_89 {σ : Nat → Nat} {n0 : Nat} {bf : ab_B} : decode (ab_code (zx σ n0 bf).1 8133) 89 = .ok (.iaload, 1) := zd zm_8133 (by decide +kernel)
theorem d_8133_90 {σ : Nat → Nat} {n0 : Nat} {bf : ab_B} : decode (ab_code (zx σ n0 bf).1 8133) 90 = .ok (.iaload, 1) := zd zm_8133 (by decide +kernel)
theorem d_8133_91 {σ : Nat → Nat} {n0 : Nat} {bf : ab_B} : decode (ab_code (zx σ n0 bf).1 8133) 91 = .ok (.istore 4, 2) := zd zm_8133 (by decide +kernel)
theorem d_8133_93 {σ : Nat → Nat} {n0 : Nat} {bf : ab_B} : decode (ab_code (zx σ n0 bf).1 8133) 93 = .ok (.aload_n 0, 1) := zd zm_8133 (by decide +kernel)
theorem d_8133_94 {σ : Nat → Nat} {n0 : Nat} {bf : ab_B} : decode (ab_code (zx σ n0 bf).1 8133) 94 = .ok (.invokevirtual 538, 3) := zd zm_8133 (by decide +kernel)
theorem d_8133_97 {σ : Nat → Nat} {n0 : Nat} {bf : ab_B} : decode (ab_code (zx σ n0 bf).1 8133) 97 = .ok (.iload_n 3, 1) := zd zm_8133 (by decide +kernel)
theorem d_8133_98 {σ : Nat → Nat} {n0 : Nat} {bf : ab_B} : decode (ab_code (zx σ n0 bf).1 8133) 98 = .ok (.iconst 3, 1) := zd zm_8133 (by decide +kernel)
theorem d_8133_99 {σ : Nat → Nat} {n0 : Nat} {bf : ab_B} : decode (ab_code (zx σ n0 bf).1 8133) 99 = .ok (.if_icmp .ne 12, 3) := zd zm_8133 (by decide +kernel)
theorem d_8133_102 {σ : Nat → Nat} {n0 : Nat} {bf : ab_B} : decode (ab_code (zx σ n0 bf).1 8133) 102 = .ok (.iload_n 1, 1) := zd zm_8133 (by decide +kernel)
theorem d_8133_103 {σ : Nat → Nat} {n0 : Nat} {bf : ab_B} : decode (ab_code (zx σ n0 bf).1 8133) 103 = .ok (.ifCond .ne 8, 3) := zd zm_8133 (by decide +kernel)
theorem d_8133_106 {σ : Nat → Nat} {n0 : Nat} {bf : ab_B} : decode (ab_code (zx σ n0 bf).1 8133) 106 = .ok (.aload_n 0, 1) := zd zm_8133 (by decide +kernel)
theorem d_8133_107 {σ : Nat → Nat} {n0 : Nat} {bf : ab_B} : decode (ab_code (zx σ n0 bf).1 8133) 107 = .ok (.iconst 5, 1) := zd zm_8133 (by decide +kernel)
theorem d_8133_108 {σ : Nat → Nat} {n0 : Nat} {bf : ab_B} : decode (ab_code (zx σ n0 bf).1 8133) 108 = .ok (.invokevirtual 541, 3) := zd zm_8133 (by decide +kernel)
theorem d_8133_111 {σ : Nat → Nat} {n0 : Nat} {bf : ab_B} : decode (ab_code (zx σ n0 bf).1 8133) 111 = .ok (.iload 4, 2) := zd zm_8133 (by decide +kernel)
theorem d_8133_113 {σ : Nat → Nat} {n0 : Nat} {bf : ab_B} : decode (ab_code (zx σ n0 bf).1 8133) 113 = .ok (.ireturn, 1) := zd zm_8133 (by decide +kernel)
def w_X9_typeName_91 (X : zs_X) (d : Nat) (p0 : Nat) (p1 : Int32) (p3 : Int32) (q0 : Int32) (S : zs_T) (Q : zs_Q) : Prop :=
  (zs_K S p0 = some (.inl 8) ∧ zs_C X d 8014 [.ref p0] S (zs_kV (fun S2 => (((¬ p3 = (3 : Int32) → (Q (.returned (some (.int q0))) S2)) ∧ (¬ (¬ p3 = (3 : Int32)) → (((¬ p1 = 0 → (Q (.returned (some (.int q0))) S2)) ∧ (¬ (¬ p1 = 0) → (zs_K S2 p0 = some (.inl 8) ∧ zs_C X d 8027 [.ref p0, .int (5 : Int32)] S2 (zs_kV (fun S7 => (Q (.returned (some (.int q0))) S7)) Q))))))))) Q))
theorem u_X9_typeName_91 {σ : Nat → Nat} {n0 : Nat} {bf : ab_B} {d : Nat} {p0 : Nat} {p1 : Int32} {p3 : Int32} {q0 : Int32} {S : zs_T} {Q : zs_Q} (hB : zt_B bf) (h : w_X9_typeName_91 (zx σ n0 bf) d p0 p1 p3 q0 S Q) : zs_U (zx σ n0 bf) d 8133 91 [(0, .ref p0), (1, .int p1), (3, .int p3)] [.int q0] S Q := by
  unfold w_X9_typeName_91 at h
  refine zu_istore d_8133_91 (zs_lt zq_8133 rfl) ?_
  refine zu_aload_n d_8133_93 rfl (zs_ra _) ?_
  obtain ⟨k1, h⟩ := h
  refine zc_8_538  hB rfl k1 d_8133_94 (Nat.le_of_ble_eq_true rfl) h (fun S2 h => ?_)
  refine zu_iload_n d_8133_97 rfl ?_
  refine zu_iconst d_8133_98 zi_3 ?_
  refine zu_cmpne (t := 111) d_8133_99 rfl (fun c4 => ?_) (fun c4 => ?_)
  · have h := h.1 c4
    refine zu_iload d_8133_111 rfl ?_
    exact zu_iret d_8133_113 zr_8133 rfl h
  · have h := h.2 c4
    refine zu_iload_n d_8133_102 rfl ?_
    refine zu_ifne (t := 111) d_8133_103 rfl (fun c5 => ?_) (fun c5 => ?_)
    · have h := h.1 c5
      refine zu_iload d_8133_111 rfl ?_
      exact zu_iret d_8133_113 zr_8133 rfl h
    · have h := h.2 c5
      refine zu_aload_n d_8133_106 rfl (zs_ra _) ?_
      refine zu_iconst d_8133_107 zi_5 ?_
      obtain ⟨k6, h⟩ := h
      refine zc_8_541 (x0 := (5 : Int32)) hB rfl k6 d_8133_108 (Nat.le_of_ble_eq_true rfl) h (fun S7 h => ?_)
      refine zu_iload d_8133_111 rfl ?_
      exact zu_iret d_8133_113 zr_8133 rfl h
def w_X9_typeName_66 (X : zs_X) (d : Nat) (p0 : Nat) (p1 : Int32) (p2 : Int32) (p3 : Int32) (S : zs_T) (Q : zs_Q) : Prop :=
  (((¬ p3 = (2 : Int32) → (zs_K S p0 = some (.inl 8) ∧ ∃ b3, (zs_R S 8027 p0) = some b3 ∧ zs_A S b3 0 p2 ∧ ∃ b6, (zs_R S 8115 p0) = some b6 ∧ zs_A S b6 0 (zs_i S b3 p2.toNatClampNeg) ∧ w_X9_typeName_91 X d p0 p1 p3 (zs_i S b6 (zs_i S b3 p2.toNatClampNeg).toNatClampNeg) S Q)) ∧ (¬ (¬ p3 = (2 : Int32)) → (zs_K S p0 = some (.inl 8) ∧ ∃ b10, (zs_R S 8026 p0) = some b10 ∧ zs_A S b10 0 p2 ∧ w_X9_typeName_91 X d p0 p1 p3 (zs_i S b10 p2.toNatClampNeg) S Q))))
theorem u_X9_typeName_66 {σ : Nat → Nat} {n0 : Nat} {bf : ab_B} {d : Nat} {p0 : Nat} {p1 : Int32} {p2 : Int32} {p3 : Int32} {S : zs_T} {Q : zs_Q} (hB : zt_B bf) (h : w_X9_typeName_66 (zx σ n0 bf) d p0 p1 p2 p3 S Q) : zs_U (zx σ n0 bf) d 8133 66 [(0, .ref p0), (1, .int p1), (2, .int p2), (3, .int p3)] [] S Q := by
  unfold w_X9_typeName_66 at h
  refine zu_iload_n d_8133_66 rfl ?_
  refine zu_iconst d_8133_67 zi_2 ?_
  refine zu_cmpne (t := 80) d_8133_68 rfl (fun c1 => ?_) (fun c1 => ?_)
  · have h := h.1 c1
    refine zu_aload_n d_8133_80 rfl (zs_ra _) ?_
    obtain ⟨k2, h⟩ := h
    refine zg_8_248 rfl d_8133_81 k2 ?_
    refine zu_aload_n d_8133_84 rfl (zs_ra _) ?_
    refine zg_8_53 rfl d_8133_85 k2 ?_
    refine zu_iload_n d_8133_88 rfl ?_
    obtain ⟨b3, e4, h⟩ := h
    refine zs_stk1 (zs_rfe e4) ?_
    obtain ⟨k5, h⟩ := h
    refine zu_iald (k := 0) d_8133_89 rfl rfl k5 ?_
    obtain ⟨b6, e7, h⟩ := h
    refine zs_stk1 (zs_rfe e7) ?_
    obtain ⟨k8, h⟩ := h
    refine zu_iald (k := 0) d_8133_90 rfl rfl k8 ?_
    exact (u_X9_typeName_91 hB h).weak ⟨rfl, rfl, rfl, trivial⟩
  · have h := h.2 c1
    refine zu_aload_n d_8133_71 rfl (zs_ra _) ?_
    obtain ⟨k9, h⟩ := h
    refine zg_8_50 rfl d_8133_72 k9 ?_
    refine zu_iload_n d_8133_75 rfl ?_
    obtain ⟨b10, e11, h⟩ := h
    refine zs_stk1 (zs_rfe e11) ?_
    obtain ⟨k12, h⟩ := h
    refine zu_iald (k := 0) d_8133_76 rfl rfl k12 ?_
    refine zu_goto (t := 91) d_8133_77 rfl ?_
    exact (u_X9_typeName_91 hB h).weak ⟨rfl, rfl, rfl, trivial⟩
def w_X9_typeName_48 (X : zs_X) (d : Nat) (p0 : Nat) (p1 : Int32) (p2 : Int32) (q0 : Int32) (S : zs_T) (Q : zs_Q) : Prop :=
  (((q0 = (2 : Int32) → w_X9_typeName_66 X d p0 p1 p2 q0 S Q) ∧ (¬ (q0 = (2 : Int32)) → (((q0 = (3 : Int32) → w_X9_typeName_66 X d p0 p1 p2 q0 S Q) ∧ (¬ (q0 = (3 : Int32)) → (zs_K S p0 = some (.inl 8) ∧ zs_C X d 8027 [.ref p0, .int (3 : Int32)] S (zs_kV (fun S4 => (Q (.returned (some (.int (0 : Int32)))) S4)) Q))))))))
theorem u_X9_typeName_48 {σ : Nat → Nat} {n0 : Nat} {bf : ab_B} {d : Nat} {p0 : Nat} {p1 : Int32} {p2 : Int32} {q0 : Int32} {S : zs_T} {Q : zs_Q} (hB : zt_B bf) (h : w_X9_typeName_48 (zx σ n0 bf) d p0 p1 p2 q0 S Q) : zs_U (zx σ n0 bf) d 8133 48 [(0, .ref p0), (1, .int p1), (2, .int p2)] [.int q0] S Q := by
  unfold w_X9_typeName_48 at h
  refine zu_istore_n d_8133_48 (zs_lt zq_8133 rfl) ?_
  refine zu_iload_n d_8133_49 rfl ?_
  refine zu_iconst d_8133_50 zi_2 ?_
  refine zu_cmpeq (t := 66) d_8133_51 rfl (fun c1 => ?_) (fun c1 => ?_)
  · have h := h.1 c1
    exact (u_X9_typeName_66 hB h).weak ⟨rfl, rfl, rfl, rfl, trivial⟩
  · have h := h.2 c1
    refine zu_iload_n d_8133_54 rfl ?_
    refine zu_iconst d_8133_55 zi_3 ?_
    refine zu_cmpeq (t := 66) d_8133_56 rfl (fun c2 => ?_) (fun c2 => ?_)
    · have h := h.1 c2
      exact (u_X9_typeName_66 hB h).weak ⟨rfl, rfl, rfl, rfl, trivial⟩
    · have h := h.2 c2
      refine zu_aload_n d_8133_59 rfl (zs_ra _) ?_
      refine zu_iconst d_8133_60 zi_3 ?_
      obtain ⟨k3, h⟩ := h
      refine zc_8_541 (x0 := (3 : Int32)) hB rfl k3 d_8133_61 (Nat.le_of_ble_eq_true rfl) h (fun S4 h => ?_)
      refine zu_iconst d_8133_64 zi_0 ?_
      exact zu_iret d_8133_65 zr_8133 rfl h
def w_X9_typeName (X : zs_X) (d : Nat) (p0 : Nat) (p1 : Int32) (S : zs_T) (Q : zs_Q) : Prop :=
  (zs_K S p0 = some (.inl 8) ∧ (((zs_I S 8010 p0) ≤ 0 → ((((zs_I S 8006 p0) = (1 : Int32) → (∃ b4, (zs_R S 8019 p0) = some b4 ∧ zs_A S b4 0 (zs_I S 8009 p0) ∧ ((¬ (zs_i S b4 (zs_I S 8009 p0).toNatClampNeg) = 0 → (∃ b8, (zs_R S 8024 p0) = some b8 ∧ zs_A S b8 1 (zs_i S b4 (zs_I S 8009 p0).toNatClampNeg) ∧ w_X9_typeName_48 X d p0 p1 (zs_i S b4 (zs_I S 8009 p0).toNatClampNeg) (zs_i S b8 (zs_i S b4 (zs_I S 8009 p0).toNatClampNeg).toNatClampNeg) S Q)) ∧ (¬ (¬ (zs_i S b4 (zs_I S 8009 p0).toNatClampNeg) = 0) → (w_X9_typeName_48 X d p0 p1 (zs_i S b4 (zs_I S 8009 p0).toNatClampNeg) (0 : Int32) S Q))))) ∧ (¬ ((zs_I S 8006 p0) = (1 : Int32)) → (zs_C X d 8027 [.ref p0, .int (2 : Int32)] S (zs_kV (fun S11 => (Q (.returned (some (.int (0 : Int32)))) S11)) Q)))))) ∧ (¬ ((zs_I S 8010 p0) ≤ 0) → (Q (.returned (some (.int (0 : Int32)))) S))))
theorem u_X9_typeName {σ : Nat → Nat} {n0 : Nat} {bf : ab_B} {d : Nat} {p0 : Nat} {p1 : Int32} {S : zs_T} {Q : zs_Q} (hB : zt_B bf) (hd : 1 ≤ d) (h : w_X9_typeName (zx σ n0 bf) (d - 1) p0 p1 S Q) : zs_C (zx σ n0 bf) d 8133 [.ref p0, .int p1] S Q := by
  have hL : lv_args 0 [.ref p0, .int p1] = [(0, .ref p0), (1, .int p1)] := rfl
  refine zs_C.of1 (hB.2 8133 (by decide) (by decide)) hd (by rw [hL]; exact zs_sub_self _ (by exact ⟨rfl, rfl, trivial⟩)) ?_
  rw [hL]
  clear hL
  unfold w_X9_typeName at h
  refine zu_aload_n d_8133_0 rfl (zs_ra _) ?_
  obtain ⟨k1, h⟩ := h
  refine zg_8_444 rfl d_8133_1 k1 ?_
  refine zu_ifle (t := 9) d_8133_4 rfl (fun c2 => ?_) (fun c2 => ?_)
  · have h := h.1 c2
    refine zu_aload_n d_8133_9 rfl (zs_ra _) ?_
    refine zg_8_484 rfl d_8133_10 k1 ?_
    refine zu_iconst d_8133_13 zi_1 ?_
    refine zu_cmpeq (t := 24) d_8133_14 rfl (fun c3 => ?_) (fun c3 => ?_)
    · have h := h.1 c3
      refine zu_aload_n d_8133_24 rfl (zs_ra _) ?_
      refine zg_8_37 rfl d_8133_25 k1 ?_
      refine zu_aload_n d_8133_28 rfl (zs_ra _) ?_
      refine zg_8_494 rfl d_8133_29 k1 ?_
      obtain ⟨b4, e5, h⟩ := h
      refine zs_stk1 (zs_rfe e5) ?_
      obtain ⟨k6, h⟩ := h
      refine zu_iald (k := 0) d_8133_32 rfl rfl k6 ?_
      refine zu_istore_n d_8133_33 (zs_lt zq_8133 rfl) ?_
      refine zu_iload_n d_8133_34 rfl ?_
      refine zu_ifne (t := 42) d_8133_35 rfl (fun c7 => ?_) (fun c7 => ?_)
      · have h := h.1 c7
        refine zu_aload_n d_8133_42 rfl (zs_ra _) ?_
        refine zg_8_44 rfl d_8133_43 k1 ?_
        refine zu_iload_n d_8133_46 rfl ?_
        obtain ⟨b8, e9, h⟩ := h
        refine zs_stk1 (zs_rfe e9) ?_
        obtain ⟨k10, h⟩ := h
        refine zu_bald (k := 1) d_8133_47 rfl (Or.inl rfl) k10 ?_
        exact (u_X9_typeName_48 hB h).weak ⟨rfl, rfl, rfl, trivial⟩
      · have h := h.2 c7
        refine zu_iconst d_8133_38 zi_0 ?_
        refine zu_goto (t := 48) d_8133_39 rfl ?_
        exact (u_X9_typeName_48 hB h).weak ⟨rfl, rfl, rfl, trivial⟩
    · have h := h.2 c3
      refine zu_aload_n d_8133_17 rfl (zs_ra _) ?_
      refine zu_iconst d_8133_18 zi_2 ?_
      refine zc_8_541 (x0 := (2 : Int32)) hB rfl k1 d_8133_19 (Nat.le_of_ble_eq_true rfl) h (fun S11 h => ?_)
      refine zu_iconst d_8133_22 zi_0 ?_
      exact zu_iret d_8133_23 zr_8133 rfl h
  · have h := h.2 c2
    refine zu_iconst d_8133_7 zi_0 ?_
    exact zu_iret d_8133_8 zr_8133 rfl h
/-! SchemaPascalModel.growRecord(III)V -/
theorem zm_8134 {σ : Nat → Nat} {n0 : Nat} {bf : ab_B} : ab_code (zx σ n0 bf).1 8134 = prog_17_method_127_code := rfl
theorem zq_8134 {σ : Nat → Nat} {n0 : Nat} {bf : ab_B} : ab_maxL (zx σ n0 bf).1 8134 = 4 := rfl
theorem zr_8134 {σ : Nat → Nat} {n0 : Nat} {bf : ab_B} : ab_ret (zx σ n0 bf).1 8134 = (Option.none : Option Jvm.ClassFile.FieldType) := rfl
theorem d_8134_0 {σ : Nat → Nat} {n0 : Nat} {bf : ab_B} : decode (ab_code (zx σ n0 bf).1 8134) 0 = .ok (.aload_n 0, 1) := zd zm_8134 (by decide +kernel)
theorem d_8134_1 {σ : Nat → Nat} {n0 : Nat} {bf : ab_B} : decode (ab_code (zx σ n0 bf).1 8134) 1 = .ok (.iload_n 1, 1) := zd zm_8134 (by decide +kernel)
theorem d_8134_2 {σ : Nat → Nat} {n0 : Nat} {bf : ab_B} : decode (ab_code (zx σ n0 bf).1 8134) 2 = .ok (.iload_n 2, 1) := zd zm_8134 (by decide +kernel)
theorem d_8134_3 {σ : Nat → Nat} {n0 : Nat} {bf : ab_B} : decode (ab_code (zx σ n0 bf).1 8134) 3 = .ok (.iload_n 3, 1) := zd zm_8134 (by decide +kernel)
theorem d_8134_4 {σ : Nat → Nat} {n0 : Nat} {bf : ab_B} : decode (ab_code (zx σ n0 bf).1 8134) 4 = .ok (.invokevirtual 887, 3) := zd zm_8134 (by decide +kernel)
theorem d_8134_7 {σ : Nat → Nat} {n0 : Nat} {bf : ab_B} : decode (ab_code (zx σ n0 bf).1 8134) 7 = .ok (.aload_n 0, 1) := zd zm_8134 (by decide +kernel)
theorem d_8134_8 {σ : Nat → Nat} {n0 : Nat} {bf : ab_B} : decode (ab_code (zx σ n0 bf).1 8134) 8 = .ok (.getfield 105, 3) := zd zm_8134 (by decide +kernel)
theorem d_8134_11 {σ : Nat → Nat} {n0 : Nat} {bf : ab_B} : decode (ab_code (zx σ n0 bf).1 8134) 11 = .ok (.iload_n 1, 1) := zd zm_8134 (by decide +kernel)
theorem d_8134_12 {σ : Nat → Nat} {n0 : Nat} {bf : ab_B} : decode (ab_code (zx σ n0 bf).1 8134) 12 = .ok (.aload_n 0, 1) := zd zm_8134 (by decide +kernel)
theorem d_8134_13 {σ : Nat → Nat} {n0 : Nat} {bf : ab_B} : decode (ab_code (zx σ n0 bf).1 8134) 13 = .ok (.getfield 105, 3) := zd zm_8134 (by decide +kernel)
theorem d_8134_16 {σ : Nat → Nat} {n0 : Nat} {bf : ab_B} : decode (ab_code (zx σ n0 bf).1 8134) 16 = .ok (.iload_n 1, 1) := zd zm_8134 (by decide +kernel)
theorem d_8134_17 {σ : Nat → Nat} {n0 : Nat} {bf : ab_B} : decode (ab_code (zx σ n0 bf).1 8134) 17 = .ok (.baload, 1) := zd zm_8134 (by decide +kernel)
theorem d_8134_18 {σ : Nat → Nat} {n0 : Nat} {bf : ab_B} : decode (ab_code (zx σ n0 bf).1 8134) 18 = .ok (.ifCond .ne 12, 3) := zd zm_8134 (by decide +kernel)
theorem d_8134_21 {σ : Nat → Nat} {n0 : Nat} {bf : ab_B} : decode (ab_code (zx σ n0 bf).1 8134) 21 = .ok (.aload_n 0, 1) := zd zm_8134 (by decide +kernel)
theorem d_8134_22 {σ : Nat → Nat} {n0 : Nat} {bf : ab_B} : decode (ab_code (zx σ n0 bf).1 8134) 22 = .ok (.getfield 105, 3) := zd zm_8134 (by decide +kernel)
theorem d_8134_25 {σ : Nat → Nat} {n0 : Nat} {bf : ab_B} : decode (ab_code (zx σ n0 bf).1 8134) 25 = .ok (.iload_n 2, 1) := zd zm_8134 (by decide +kernel)
theorem d_8134_26 {σ : Nat → Nat} {n0 : Nat} {bf : ab_B} : decode (ab_code (zx σ n0 bf).1 8134) 26 = .ok (.baload, 1) := zd zm_8134 (by decide +kernel)
theorem d_8134_27 {σ : Nat → Nat} {n0 : Nat} {bf : ab_B} : decode (ab_code (zx σ n0 bf).1 8134) 27 = .ok (.ifCond .eq 7, 3) := zd zm_8134 (by decide +kernel)
theorem d_8134_30 {σ : Nat → Nat} {n0 : Nat} {bf : ab_B} : decode (ab_code (zx σ n0 bf).1 8134) 30 = .ok (.iconst 1, 1) := zd zm_8134 (by decide +kernel)
theorem d_8134_31 {σ : Nat → Nat} {n0 : Nat} {bf : ab_B} : decode (ab_code (zx σ n0 bf).1 8134) 31 = .ok (.goto 4, 3) := zd zm_8134 (by decide +kernel)
theorem d_8134_34 {σ : Nat → Nat} {n0 : Nat} {bf : ab_B} : decode (ab_code (zx σ n0 bf).1 8134) 34 = .ok (.iconst 0, 1) := zd zm_8134 (by decide +kernel)
theorem d_8134_35 {σ : Nat → Nat} {n0 : Nat} {bf : ab_B} : decode (ab_code (zx σ n0 bf).1 8134) 35 = .ok (.bastore, 1) := zd zm_8134 (by decide +kernel)
theorem d_8134_36 {σ : Nat → Nat} {n0 : Nat} {bf : ab_B} : decode (ab_code (zx σ n0 bf).1 8134) 36 = .ok (.aload_n 0, 1) := zd zm_8134 (by decide +kernel)
theorem d_8134_37 {σ : Nat → Nat} {n0 : Nat} {bf : ab_B} : decode (ab_code (zx σ n0 bf).1 8134) 37 = .ok (.getfield 109, 3) := zd zm_8134 (by decide +kernel)
theorem d_8134_40 {σ : Nat → Nat} {n0 : Nat} {bf : ab_B} : decode (ab_code (zx σ n0 bf).1 8134) 40 = .ok (.iload_n 2, 1) := zd zm_8134 (by decide +kernel)
theorem d_8134_41 {σ : Nat → Nat} {n0 : Nat} {bf : ab_B} : decode (ab_code (zx σ n0 bf).1 8134) 41 = .ok (.baload, 1) := zd zm_8134 (by decide +kernel)
theorem d_8134_42 {σ : Nat → Nat} {n0 : Nat} {bf : ab_B} : decode (ab_code (zx σ n0 bf).1 8134) 42 = .ok (.aload_n 0, 1) := zd zm_8134 (by decide +kernel)
theorem d_8134_43 {σ : Nat → Nat} {n0 : Nat} {bf : ab_B} : decode (ab_code (zx σ n0 bf).1 8134) 43 = .ok (.getfield 109, 3) := zd zm_8134 (by decide +kernel)
theorem d_8134_46 {σ : Nat → Nat} {n0 : Nat} {bf : ab_B} : decode (ab_code (zx σ n0 bf).1 8134) 46 = .ok (.iload_n 1, 1) := zd zm_8134 (by decide +kernel)
theorem d_8134_47 {σ : Nat → Nat} {n0 : Nat} {bf : ab_B} : decode (ab_code (zx σ n0 bf).1 8134) 47 = .ok (.baload, 1) := zd zm_8134 (by decide +kernel)
theorem d_8134_48 {σ : Nat → Nat} {n0 : Nat} {bf : ab_B} : decode (ab_code (zx σ n0 bf).1 8134) 48 = .ok (.if_icmp .lt 18, 3) := zd zm_8134 (by decide +kernel)
theorem d_8134_51 {σ : Nat → Nat} {n0 : Nat} {bf : ab_B} : decode (ab_code (zx σ n0 bf).1 8134) 51 = .ok (.aload_n 0, 1) := zd zm_8134 (by decide +kernel)
theorem d_8134_52 {σ : Nat → Nat} {n0 : Nat} {bf : ab_B} : decode (ab_code (zx σ n0 bf).1 8134) 52 = .ok (.getfield 109, 3) := zd zm_8134 (by decide +kernel)
theorem d_8134_55 {σ : Nat → Nat} {n0 : Nat} {bf : ab_B} : decode (ab_code (zx σ n0 bf).1 8134) 55 = .ok (.iload_n 1, 1) := zd zm_8134 (by decide +kernel)
theorem d_8134_56 {σ : Nat → Nat} {n0 : Nat} {bf : ab_B} : decode (ab_code (zx σ n0 bf).1 8134) 56 = .ok (.aload_n 0, 1) := zd zm_8134 (by decide +kernel)
theorem d_8134_57 {σ : Nat → Nat} {n0 : Nat} {bf : ab_B} : decode (ab_code (zx σ n0 bf).1 8134) 57 = .ok (.getfield 109, 3) := zd zm_8134 (by decide +kernel)
theorem d_8134_60 {σ : Nat → Nat} {n0 : Nat} {bf : ab_B} : decode (ab_code (zx σ n0 bf).1 8134) 60 = .ok (.iload_n 2, 1) := zd zm_8134 (by decide +kernel)
theorem d_8134_61 {σ : Nat → Nat} {n0 : Nat} {bf : ab_B} : decode (ab_code (zx σ n0 bf).1 8134) 61 = .ok (.baload, 1) := zd zm_8134 (by decide +kernel)
theorem d_8134_62 {σ : Nat → Nat} {n0 : Nat} {bf : ab_B} : decode (ab_code (zx σ n0 bf).1 8134) 62 = .ok (.iconst 1, 1) := zd zm_8134 (by decide +kernel)
theorem d_8134_63 {σ : Nat → Nat} {n0 : Nat} {bf : ab_B} : decode (ab_code (zx σ n0 bf).1 8134) 63 = .ok (.iadd, 1) := zd zm_8134 (by decide +kernel)
theorem d_8134_64 {σ : Nat → Nat} {n0 : Nat} {bf : ab_B} : decode (ab_code (zx σ n0 bf).1 8134) 64 = .ok (.i2b, 1) := zd zm_8134 (by decide +kernel)
theorem d_8134_65 {σ : Nat → Nat} {n0 : Nat} {bf : ab_B} : decode (ab_code (zx σ n0 bf).1 8134) 65 = .ok (.bastore, 1) := zd zm_8134 (by decide +kernel)
theorem d_8134_66 {σ : Nat → Nat} {n0 : Nat} {bf : ab_B} : decode (ab_code (zx σ n0 bf).1 8134) 66 = .ok (.return_, 1) := zd zm_8134 (by decide +kernel)
def w_X9_growRecord_66 (X : zs_X) (d : Nat)  (S : zs_T) (Q : zs_Q) : Prop :=
  (Q (.returned none) S)
theorem u_X9_growRecord_66 {σ : Nat → Nat} {n0 : Nat} {bf : ab_B} {d : Nat}  {S : zs_T} {Q : zs_Q} (hB : zt_B bf) (h : w_X9_growRecord_66 (zx σ n0 bf) d  S Q) : zs_U (zx σ n0 bf) d 8134 66 [] [] S Q := by
  unfold w_X9_growRecord_66 at h
  exact zu_vret d_8134_66 zr_8134 h
def w_X9_growRecord_35 (X : zs_X) (d : Nat) (p0 : Nat) (p1 : Int32) (p2 : Int32) (q0 : Option Nat) (q1 : Int32) (q2 : Int32) (S : zs_T) (Q : zs_Q) : Prop :=
  (∃ b1, q0 = some b1 ∧ zs_A S b1 2 q1 ∧ ab_n0 X.1 ≤ b1 ∧ ∀ S5, S5 = zs_si S b1 q1.toNatClampNeg (vp_nar .boolean q2) → zs_K S p0 = some (.inl 8) ∧ ∃ b9, (zs_R S5 8050 p0) = some b9 ∧ zs_A S b9 1 p2 ∧ zs_A S b9 1 p1 ∧ (((zs_i S5 b9 p2.toNatClampNeg) < (zs_i S5 b9 p1.toNatClampNeg) → w_X9_growRecord_66 X d  S5 Q) ∧ (¬ ((zs_i S5 b9 p2.toNatClampNeg) < (zs_i S5 b9 p1.toNatClampNeg)) → (ab_n0 X.1 ≤ b9 ∧ ∀ S15, S15 = zs_si S5 b9 p1.toNatClampNeg (vp_nar .byte ((((zs_i S5 b9 p2.toNatClampNeg) + (1 : Int32))).toInt8.toInt32)) → w_X9_growRecord_66 X d  S15 Q))))
theorem u_X9_growRecord_35 {σ : Nat → Nat} {n0 : Nat} {bf : ab_B} {d : Nat} {p0 : Nat} {p1 : Int32} {p2 : Int32} {q0 : Option Nat} {q1 : Int32} {q2 : Int32} {S : zs_T} {Q : zs_Q} (hB : zt_B bf) (h : w_X9_growRecord_35 (zx σ n0 bf) d p0 p1 p2 q0 q1 q2 S Q) : zs_U (zx σ n0 bf) d 8134 35 [(0, .ref p0), (1, .int p1), (2, .int p2)] [.int q2, .int q1, va_rf q0] S Q := by
  unfold w_X9_growRecord_35 at h
  obtain ⟨b1, e2, h⟩ := h
  refine zs_stk2 (zs_rfe e2) ?_
  obtain ⟨k3, h⟩ := h
  obtain ⟨k4, h⟩ := h
  refine zu_bast_bool (k := 2) d_8134_35 rfl rfl k4 k3 ?_
  generalize e6 : zs_si S b1 q1.toNatClampNeg (vp_nar .boolean q2) = S5
  have h := h S5 e6.symm
  have K7 : ∀ b, zs_K S5 b = zs_K S b := zs_Kt e6 (zs_Ksi _ _ _ _) (fun _ => rfl)
  refine zu_aload_n d_8134_36 rfl (zs_ra _) ?_
  obtain ⟨k8, h⟩ := h
  refine zg_8_109 rfl d_8134_37 ((K7 _).trans k8) ?_
  refine zu_iload_n d_8134_40 rfl ?_
  obtain ⟨b9, e10, h⟩ := h
  refine zs_stk1 (zs_rfe e10) ?_
  obtain ⟨k11, h⟩ := h
  refine zu_bald (k := 1) d_8134_41 rfl (Or.inl rfl) (zs_Ak K7 k11) ?_
  refine zu_aload_n d_8134_42 rfl (zs_ra _) ?_
  refine zg_8_109 rfl d_8134_43 ((K7 _).trans k8) ?_
  refine zu_iload_n d_8134_46 rfl ?_
  refine zs_stk1 (zs_rfe e10) ?_
  obtain ⟨k12, h⟩ := h
  refine zu_bald (k := 1) d_8134_47 rfl (Or.inl rfl) (zs_Ak K7 k12) ?_
  refine zu_cmplt (t := 66) d_8134_48 rfl (fun c13 => ?_) (fun c13 => ?_)
  · have h := h.1 c13
    exact (u_X9_growRecord_66 hB h).weak trivial
  · have h := h.2 c13
    refine zu_aload_n d_8134_51 rfl (zs_ra _) ?_
    refine zg_8_109 rfl d_8134_52 ((K7 _).trans k8) ?_
    refine zu_iload_n d_8134_55 rfl ?_
    refine zu_aload_n d_8134_56 rfl (zs_ra _) ?_
    refine zg_8_109 rfl d_8134_57 ((K7 _).trans k8) ?_
    refine zu_iload_n d_8134_60 rfl ?_
    refine zs_stk1 (zs_rfe e10) ?_
    refine zu_bald (k := 1) d_8134_61 rfl (Or.inl rfl) (zs_Ak K7 k11) ?_
    refine zu_iconst d_8134_62 zi_1 ?_
    refine zu_stk d_8134_63 rfl rfl ?_
    refine zu_stk d_8134_64 rfl rfl ?_
    refine zs_stk2 (zs_rfe e10) ?_
    obtain ⟨k14, h⟩ := h
    refine zu_bast_byte (k := 1) d_8134_65 rfl rfl k14 (zs_Ak K7 k12) ?_
    generalize e16 : zs_si S5 b9 p1.toNatClampNeg (vp_nar .byte ((((zs_i S5 b9 p2.toNatClampNeg) + (1 : Int32))).toInt8.toInt32)) = S15
    have h := h S15 e16.symm
    have K17 : ∀ b, zs_K S15 b = zs_K S b := zs_Kt e16 (zs_Ksi _ _ _ _) K7
    exact (u_X9_growRecord_66 hB h).weak trivial
def w_X9_growRecord_30 (X : zs_X) (d : Nat) (p0 : Nat) (p1 : Int32) (p2 : Int32) (q0 : Option Nat) (q1 : Int32) (S : zs_T) (Q : zs_Q) : Prop :=
  (w_X9_growRecord_35 X d p0 p1 p2 q0 q1 (1 : Int32) S Q)
theorem u_X9_growRecord_30 {σ : Nat → Nat} {n0 : Nat} {bf : ab_B} {d : Nat} {p0 : Nat} {p1 : Int32} {p2 : Int32} {q0 : Option Nat} {q1 : Int32} {S : zs_T} {Q : zs_Q} (hB : zt_B bf) (h : w_X9_growRecord_30 (zx σ n0 bf) d p0 p1 p2 q0 q1 S Q) : zs_U (zx σ n0 bf) d 8134 30 [(0, .ref p0), (1, .int p1), (2, .int p2)] [.int q1, va_rf q0] S Q := by
  unfold w_X9_growRecord_30 at h
  refine zu_iconst d_8134_30 zi_1 ?_
  refine zu_goto (t := 35) d_8134_31 rfl ?_
  exact (u_X9_growRecord_35 hB h).weak ⟨rfl, rfl, rfl, trivial⟩
def w_X9_growRecord (X : zs_X) (d : Nat) (p0 : Nat) (p1 : Int32) (p2 : Int32) (p3 : Int32) (S : zs_T) (Q : zs_Q) : Prop :=
  (zs_K S p0 = some (.inl 8) ∧ zs_C X d 8113 [.ref p0, .int p1, .int p2, .int p3] S (zs_kV (fun S2 => (zs_K S2 p0 = some (.inl 8) ∧ ∃ b5, (zs_R S2 8049 p0) = some b5 ∧ zs_A S2 b5 2 p1 ∧ ((¬ (zs_i S2 b5 p1.toNatClampNeg) = 0 → w_X9_growRecord_30 X d p0 p1 p2 (zs_R S2 8049 p0) p1 S2 Q) ∧ (¬ (¬ (zs_i S2 b5 p1.toNatClampNeg) = 0) → (zs_A S2 b5 2 p2 ∧ (((zs_i S2 b5 p2.toNatClampNeg) = 0 → (w_X9_growRecord_35 X d p0 p1 p2 (zs_R S2 8049 p0) p1 (0 : Int32) S2 Q)) ∧ (¬ ((zs_i S2 b5 p2.toNatClampNeg) = 0) → w_X9_growRecord_30 X d p0 p1 p2 (zs_R S2 8049 p0) p1 S2 Q))))))) Q))
theorem u_X9_growRecord {σ : Nat → Nat} {n0 : Nat} {bf : ab_B} {d : Nat} {p0 : Nat} {p1 : Int32} {p2 : Int32} {p3 : Int32} {S : zs_T} {Q : zs_Q} (hB : zt_B bf) (hd : 1 ≤ d) (h : w_X9_growRecord (zx σ n0 bf) (d - 1) p0 p1 p2 p3 S Q) : zs_C (zx σ n0 bf) d 8134 [.ref p0, .int p1, .int p2, .int p3] S Q := by
  have hL : lv_args 0 [.ref p0, .int p1, .int p2, .int p3] = [(0, .ref p0), (1, .int p1), (2, .int p2), (3, .int p3)] := rfl
  refine zs_C.of1 (hB.2 8134 (by decide) (by decide)) hd (by rw [hL]; exact zs_sub_self _ (by exact ⟨rfl, rfl, rfl, rfl, trivial⟩)) ?_
  rw [hL]
  clear hL
  unfold w_X9_growRecord at h
  refine zu_aload_n d_8134_0 rfl (zs_ra _) ?_
  refine zu_iload_n d_8134_1 rfl ?_
  refine zu_iload_n d_8134_2 rfl ?_
  refine zu_iload_n d_8134_3 rfl ?_
  obtain ⟨k1, h⟩ := h
  refine zc_8_887 (x0 := p1) (x1 := p2) (x2 := p3) hB rfl k1 d_8134_4 (Nat.le_of_ble_eq_true rfl) h (fun S2 h => ?_)
  refine zu_aload_n d_8134_7 rfl (zs_ra _) ?_
  obtain ⟨k4, h⟩ := h
  refine zg_8_105 rfl d_8134_8 k4 ?_
  refine zu_iload_n d_8134_11 rfl ?_
  refine zu_aload_n d_8134_12 rfl (zs_ra _) ?_
  refine zg_8_105 rfl d_8134_13 k4 ?_
  refine zu_iload_n d_8134_16 rfl ?_
  obtain ⟨b5, e6, h⟩ := h
  refine zs_stk1 (zs_rfe e6) ?_
  obtain ⟨k7, h⟩ := h
  refine zu_bald (k := 2) d_8134_17 rfl (Or.inr rfl) k7 ?_
  refine zu_ifne (t := 30) d_8134_18 rfl (fun c8 => ?_) (fun c8 => ?_)
  · have h := h.1 c8
    exact (u_X9_growRecord_30 hB h).weak ⟨rfl, rfl, rfl, trivial⟩
  · have h := h.2 c8
    refine zu_aload_n d_8134_21 rfl (zs_ra _) ?_
    refine zg_8_105 rfl d_8134_22 k4 ?_
    refine zu_iload_n d_8134_25 rfl ?_
    refine zs_stk1 (zs_rfe e6) ?_
    obtain ⟨k9, h⟩ := h
    refine zu_bald (k := 2) d_8134_26 rfl (Or.inr rfl) k9 ?_
    refine zu_ifeq (t := 34) d_8134_27 rfl (fun c10 => ?_) (fun c10 => ?_)
    · have h := h.1 c10
      refine zu_iconst d_8134_34 zi_0 ?_
      exact (u_X9_growRecord_35 hB h).weak ⟨rfl, rfl, rfl, trivial⟩
    · have h := h.2 c10
      exact (u_X9_growRecord_30 hB h).weak ⟨rfl, rfl, rfl, trivial⟩
/-! SchemaPascalModel.fieldTyped(III)V -/
theorem zm_8135 {σ : Nat → Nat} {n0 : Nat} {bf : ab_B} : ab_code (zx σ n0 bf).1 8135 = prog_17_method_128_code := rfl
theorem zq_8135 {σ : Nat → Nat} {n0 : Nat} {bf : ab_B} : ab_maxL (zx σ n0 bf).1 8135 = 6 := rfl
theorem zr_8135 {σ : Nat → Nat} {n0 : Nat} {bf : ab_B} : ab_ret (zx σ n0 bf).1 8135 = (Option.none : Option Jvm.ClassFile.FieldType) := rfl
theorem d_8135_0 {σ : Nat → Nat} {n0 : Nat} {bf : ab_B} : decode (ab_code (zx σ n0 bf).1 8135) 0 = .ok (.aload_n 0, 1) := zd zm_8135 (by decide +kernel)
theorem d_8135_1 {σ : Nat → Nat} {n0 : Nat} {bf : ab_B} : decode (ab_code (zx σ n0 bf).1 8135) 1 = .ok (.getfield 444, 3) := zd zm_8135 (by decide +kernel)
theorem d_8135_4 {σ : Nat → Nat} {n0 : Nat} {bf : ab_B} : decode (ab_code (zx σ n0 bf).1 8135) 4 = .ok (.ifCond .le 4, 3) := zd zm_8135 (by decide +kernel)
theorem d_8135_7 {σ : Nat → Nat} {n0 : Nat} {bf : ab_B} : decode (ab_code (zx σ n0 bf).1 8135) 7 = .ok (.return_, 1) := zd zm_8135 (by decide +kernel)
theorem d_8135_8 {σ : Nat → Nat} {n0 : Nat} {bf : ab_B} : decode (ab_code (zx σ n0 bf).1 8135) 8 = .ok (.aload_n 0, 1) := zd zm_8135 (by decide +kernel)
theorem d_8135_9 {σ : Nat → Nat} {n0 : Nat} {bf : ab_B} : decode (ab_code (zx σ n0 bf).1 8135) 9 = .ok (.dup, 1) := zd zm_8135 (by decide +kernel)
theorem d_8135_10 {σ : Nat → Nat} {n0 : Nat} {bf : ab_B} : decode (ab_code (zx σ n0 bf).1 8135) 10 = .ok (.getfield 831, 3) := zd zm_8135 (by decide +kernel)
theorem d_8135_13 {σ : Nat → Nat} {n0 : Nat} {bf : ab_B} : decode (ab_code (zx σ n0 bf).1 8135) 13 = .ok (.iconst 1, 1) := zd zm_8135 (by decide +kernel)
theorem d_8135_14 {σ : Nat → Nat} {n0 : Nat} {bf : ab_B} : decode (ab_code (zx σ n0 bf).1 8135) 14 = .ok (.isub, 1) := zd zm_8135 (by decide +kernel)
theorem d_8135_15 {σ : Nat → Nat} {n0 : Nat} {bf : ab_B} : decode (ab_code (zx σ n0 bf).1 8135) 15 = .ok (.putfield 831, 3) := zd zm_8135 (by decide +kernel)
theorem d_8135_18 {σ : Nat → Nat} {n0 : Nat} {bf : ab_B} : decode (ab_code (zx σ n0 bf).1 8135) 18 = .ok (.aload_n 0, 1) := zd zm_8135 (by decide +kernel)
theorem d_8135_19 {σ : Nat → Nat} {n0 : Nat} {bf : ab_B} : decode (ab_code (zx σ n0 bf).1 8135) 19 = .ok (.getfield 278, 3) := zd zm_8135 (by decide +kernel)
theorem d_8135_22 {σ : Nat → Nat} {n0 : Nat} {bf : ab_B} : decode (ab_code (zx σ n0 bf).1 8135) 22 = .ok (.aload_n 0, 1) := zd zm_8135 (by decide +kernel)
theorem d_8135_23 {σ : Nat → Nat} {n0 : Nat} {bf : ab_B} : decode (ab_code (zx σ n0 bf).1 8135) 23 = .ok (.getfield 831, 3) := zd zm_8135 (by decide +kernel)
theorem d_8135_26 {σ : Nat → Nat} {n0 : Nat} {bf : ab_B} : decode (ab_code (zx σ n0 bf).1 8135) 26 = .ok (.iaload, 1) := zd zm_8135 (by decide +kernel)
theorem d_8135_27 {σ : Nat → Nat} {n0 : Nat} {bf : ab_B} : decode (ab_code (zx σ n0 bf).1 8135) 27 = .ok (.istore 4, 2) := zd zm_8135 (by decide +kernel)
theorem d_8135_29 {σ : Nat → Nat} {n0 : Nat} {bf : ab_B} : decode (ab_code (zx σ n0 bf).1 8135) 29 = .ok (.iconst 0, 1) := zd zm_8135 (by decide +kernel)
theorem d_8135_30 {σ : Nat → Nat} {n0 : Nat} {bf : ab_B} : decode (ab_code (zx σ n0 bf).1 8135) 30 = .ok (.istore 5, 2) := zd zm_8135 (by decide +kernel)
theorem d_8135_32 {σ : Nat → Nat} {n0 : Nat} {bf : ab_B} : decode (ab_code (zx σ n0 bf).1 8135) 32 = .ok (.iload 5, 2) := zd zm_8135 (by decide +kernel)
theorem d_8135_34 {σ : Nat → Nat} {n0 : Nat} {bf : ab_B} : decode (ab_code (zx σ n0 bf).1 8135) 34 = .ok (.iload_n 3, 1) := zd zm_8135 (by decide +kernel)
theorem d_8135_35 {σ : Nat → Nat} {n0 : Nat} {bf : ab_B} : decode (ab_code (zx σ n0 bf).1 8135) 35 = .ok (.if_icmp .ge 20, 3) := zd zm_8135 (by decide +kernel)
theorem d_8135_38 {σ : Nat → Nat} {n0 : Nat} {bf : ab_B} : decode (ab_code (zx σ n0 bf).1 8135) 38 = .ok (.aload_n 0, 1) := zd zm_8135 (by decide +kernel)
theorem d_8135_39 {σ : Nat → Nat} {n0 : Nat} {bf : ab_B} : decode (ab_code (zx σ n0 bf).1 8135) 39 = .ok (.getfield 142, 3) := zd zm_8135 (by decide +kernel)
theorem d_8135_42 {σ : Nat → Nat} {n0 : Nat} {bf : ab_B} : decode (ab_code (zx σ n0 bf).1 8135) 42 = .ok (.iload_n 2, 1) := zd zm_8135 (by decide +kernel)
theorem d_8135_43 {σ : Nat → Nat} {n0 : Nat} {bf : ab_B} : decode (ab_code (zx σ n0 bf).1 8135) 43 = .ok (.iload 5, 2) := zd zm_8135 (by decide +kernel)
theorem d_8135_45 {σ : Nat → Nat} {n0 : Nat} {bf : ab_B} : decode (ab_code (zx σ n0 bf).1 8135) 45 = .ok (.iadd, 1) := zd zm_8135 (by decide +kernel)
theorem d_8135_46 {σ : Nat → Nat} {n0 : Nat} {bf : ab_B} : decode (ab_code (zx σ n0 bf).1 8135) 46 = .ok (.iload 4, 2) := zd zm_8135 (by decide +kernel)
theorem d_8135_48 {σ : Nat → Nat} {n0 : Nat} {bf : ab_B} : decode (ab_code (zx σ n0 bf).1 8135) 48 = .ok (.iastore, 1) := zd zm_8135 (by decide +kernel)
theorem d_8135_49 {σ : Nat → Nat} {n0 : Nat} {bf : ab_B} : decode (ab_code (zx σ n0 bf).1 8135) 49 = .ok (.iinc 5 1, 3) := zd zm_8135 (by decide +kernel)
theorem d_8135_52 {σ : Nat → Nat} {n0 : Nat} {bf : ab_B} : decode (ab_code (zx σ n0 bf).1 8135) 52 = .ok (.goto (-20), 3) := zd zm_8135 (by decide +kernel)
theorem d_8135_55 {σ : Nat → Nat} {n0 : Nat} {bf : ab_B} : decode (ab_code (zx σ n0 bf).1 8135) 55 = .ok (.aload_n 0, 1) := zd zm_8135 (by decide +kernel)
theorem d_8135_56 {σ : Nat → Nat} {n0 : Nat} {bf : ab_B} : decode (ab_code (zx σ n0 bf).1 8135) 56 = .ok (.iload_n 1, 1) := zd zm_8135 (by decide +kernel)
theorem d_8135_57 {σ : Nat → Nat} {n0 : Nat} {bf : ab_B} : decode (ab_code (zx σ n0 bf).1 8135) 57 = .ok (.iload 4, 2) := zd zm_8135 (by decide +kernel)
theorem d_8135_59 {σ : Nat → Nat} {n0 : Nat} {bf : ab_B} : decode (ab_code (zx σ n0 bf).1 8135) 59 = .ok (.iload_n 3, 1) := zd zm_8135 (by decide +kernel)
theorem d_8135_60 {σ : Nat → Nat} {n0 : Nat} {bf : ab_B} : decode (ab_code (zx σ n0 bf).1 8135) 60 = .ok (.invokevirtual 902, 3) := zd zm_8135 (by decide +kernel)
theorem d_8135_63 {σ : Nat → Nat} {n0 : Nat} {bf : ab_B} : decode (ab_code (zx σ n0 bf).1 8135) 63 = .ok (.aload_n 0, 1) := zd zm_8135 (by decide +kernel)
theorem d_8135_64 {σ : Nat → Nat} {n0 : Nat} {bf : ab_B} : decode (ab_code (zx σ n0 bf).1 8135) 64 = .ok (.bipush 13, 2) := zd zm_8135 (by decide +kernel)
theorem d_8135_66 {σ : Nat → Nat} {n0 : Nat} {bf : ab_B} : decode (ab_code (zx σ n0 bf).1 8135) 66 = .ok (.invokevirtual 535, 3) := zd zm_8135 (by decide +kernel)
theorem d_8135_69 {σ : Nat → Nat} {n0 : Nat} {bf : ab_B} : decode (ab_code (zx σ n0 bf).1 8135) 69 = .ok (.ifCond .eq 25, 3) := zd zm_8135 (by decide +kernel)
theorem d_8135_72 {σ : Nat → Nat} {n0 : Nat} {bf : ab_B} : decode (ab_code (zx σ n0 bf).1 8135) 72 = .ok (.aload_n 0, 1) := zd zm_8135 (by decide +kernel)
theorem d_8135_73 {σ : Nat → Nat} {n0 : Nat} {bf : ab_B} : decode (ab_code (zx σ n0 bf).1 8135) 73 = .ok (.invokevirtual 538, 3) := zd zm_8135 (by decide +kernel)
theorem d_8135_76 {σ : Nat → Nat} {n0 : Nat} {bf : ab_B} : decode (ab_code (zx σ n0 bf).1 8135) 76 = .ok (.aload_n 0, 1) := zd zm_8135 (by decide +kernel)
theorem d_8135_77 {σ : Nat → Nat} {n0 : Nat} {bf : ab_B} : decode (ab_code (zx σ n0 bf).1 8135) 77 = .ok (.bipush 39, 2) := zd zm_8135 (by decide +kernel)
theorem d_8135_79 {σ : Nat → Nat} {n0 : Nat} {bf : ab_B} : decode (ab_code (zx σ n0 bf).1 8135) 79 = .ok (.iload_n 1, 1) := zd zm_8135 (by decide +kernel)
theorem d_8135_80 {σ : Nat → Nat} {n0 : Nat} {bf : ab_B} : decode (ab_code (zx σ n0 bf).1 8135) 80 = .ok (.aload_n 0, 1) := zd zm_8135 (by decide +kernel)
theorem d_8135_81 {σ : Nat → Nat} {n0 : Nat} {bf : ab_B} : decode (ab_code (zx σ n0 bf).1 8135) 81 = .ok (.getfield 145, 3) := zd zm_8135 (by decide +kernel)
theorem d_8135_84 {σ : Nat → Nat} {n0 : Nat} {bf : ab_B} : decode (ab_code (zx σ n0 bf).1 8135) 84 = .ok (.iload_n 2, 1) := zd zm_8135 (by decide +kernel)
theorem d_8135_85 {σ : Nat → Nat} {n0 : Nat} {bf : ab_B} : decode (ab_code (zx σ n0 bf).1 8135) 85 = .ok (.iaload, 1) := zd zm_8135 (by decide +kernel)
theorem d_8135_86 {σ : Nat → Nat} {n0 : Nat} {bf : ab_B} : decode (ab_code (zx σ n0 bf).1 8135) 86 = .ok (.iload_n 2, 1) := zd zm_8135 (by decide +kernel)
theorem d_8135_87 {σ : Nat → Nat} {n0 : Nat} {bf : ab_B} : decode (ab_code (zx σ n0 bf).1 8135) 87 = .ok (.iload_n 3, 1) := zd zm_8135 (by decide +kernel)
theorem d_8135_88 {σ : Nat → Nat} {n0 : Nat} {bf : ab_B} : decode (ab_code (zx σ n0 bf).1 8135) 88 = .ok (.iadd, 1) := zd zm_8135 (by decide +kernel)
theorem d_8135_89 {σ : Nat → Nat} {n0 : Nat} {bf : ab_B} : decode (ab_code (zx σ n0 bf).1 8135) 89 = .ok (.iconst 1, 1) := zd zm_8135 (by decide +kernel)
theorem d_8135_90 {σ : Nat → Nat} {n0 : Nat} {bf : ab_B} : decode (ab_code (zx σ n0 bf).1 8135) 90 = .ok (.isub, 1) := zd zm_8135 (by decide +kernel)
theorem d_8135_91 {σ : Nat → Nat} {n0 : Nat} {bf : ab_B} : decode (ab_code (zx σ n0 bf).1 8135) 91 = .ok (.invokevirtual 649, 3) := zd zm_8135 (by decide +kernel)
theorem d_8135_94 {σ : Nat → Nat} {n0 : Nat} {bf : ab_B} : decode (ab_code (zx σ n0 bf).1 8135) 94 = .ok (.return_, 1) := zd zm_8135 (by decide +kernel)
def w_X9_fieldTyped_94 (X : zs_X) (d : Nat)  (S : zs_T) (Q : zs_Q) : Prop :=
  (Q (.returned none) S)
theorem u_X9_fieldTyped_94 {σ : Nat → Nat} {n0 : Nat} {bf : ab_B} {d : Nat}  {S : zs_T} {Q : zs_Q} (hB : zt_B bf) (h : w_X9_fieldTyped_94 (zx σ n0 bf) d  S Q) : zs_U (zx σ n0 bf) d 8135 94 [] [] S Q := by
  unfold w_X9_fieldTyped_94 at h
  exact zu_vret d_8135_94 zr_8135 h
def w_X9_fieldTyped_32 (X : zs_X) (d : Nat) (p0 : Nat) (p1 : Int32) (p2 : Int32) (p3 : Int32) (p4 : Int32) (p5 : Int32) (S : zs_T) (Q : zs_Q) : Prop :=
  (((p3 ≤ p5 → (zs_K S p0 = some (.inl 8) ∧ zs_C X d 8134 [.ref p0, .int p1, .int p4, .int p3] S (zs_kV (fun S3 => (zs_K S3 p0 = some (.inl 8) ∧ zs_C X d 8029 [.ref p0, .int (13 : Int32)] S3 (zs_kI (fun v7 S6 => (((v7 = 0 → w_X9_fieldTyped_94 X d  S6 Q) ∧ (¬ (v7 = 0) → (zs_K S6 p0 = some (.inl 8) ∧ zs_C X d 8014 [.ref p0] S6 (zs_kV (fun S10 => (zs_K S10 p0 = some (.inl 8) ∧ ∃ b13, (zs_R S10 8066 p0) = some b13 ∧ zs_A S10 b13 0 p2 ∧ zs_C X d 8030 [.ref p0, .int (39 : Int32), .int p1, .int (zs_i S10 b13 p2.toNatClampNeg), .int ((p2 + p3) - (1 : Int32))] S10 (zs_kV (fun S16 => w_X9_fieldTyped_94 X d  S16 Q) Q))) Q)))))) Q))) Q))) ∧ (¬ (p3 ≤ p5) → (zs_K S p0 = some (.inl 8) ∧ ∃ b19, (zs_R S 8065 p0) = some b19 ∧ zs_A S b19 0 (p2 + p5) ∧ ab_n0 X.1 ≤ b19 ∧ ∀ S23, S23 = zs_si S b19 (p2 + p5).toNatClampNeg p4 → zs_U X d 8135 32 [(0, .ref p0), (1, .int p1), (2, .int p2), (3, .int p3), (4, .int p4), (5, .int (p5 + (1 : Int32)))] [] S23 Q))))
theorem u_X9_fieldTyped_32 {σ : Nat → Nat} {n0 : Nat} {bf : ab_B} {d : Nat} {p0 : Nat} {p1 : Int32} {p2 : Int32} {p3 : Int32} {p4 : Int32} {p5 : Int32} {S : zs_T} {Q : zs_Q} (hB : zt_B bf) (h : w_X9_fieldTyped_32 (zx σ n0 bf) d p0 p1 p2 p3 p4 p5 S Q) : zs_U (zx σ n0 bf) d 8135 32 [(0, .ref p0), (1, .int p1), (2, .int p2), (3, .int p3), (4, .int p4), (5, .int p5)] [] S Q := by
  unfold w_X9_fieldTyped_32 at h
  refine zu_iload d_8135_32 rfl ?_
  refine zu_iload_n d_8135_34 rfl ?_
  refine zu_cmpge (t := 55) d_8135_35 rfl (fun c1 => ?_) (fun c1 => ?_)
  · have h := h.1 c1
    refine zu_aload_n d_8135_55 rfl (zs_ra _) ?_
    refine zu_iload_n d_8135_56 rfl ?_
    refine zu_iload d_8135_57 rfl ?_
    refine zu_iload_n d_8135_59 rfl ?_
    obtain ⟨k2, h⟩ := h
    refine zc_8_902 (x0 := p1) (x1 := p4) (x2 := p3) hB rfl k2 d_8135_60 (Nat.le_of_ble_eq_true rfl) h (fun S3 h => ?_)
    refine zu_aload_n d_8135_63 rfl (zs_ra _) ?_
    refine zu_bipush d_8135_64 zj_13 ?_
    obtain ⟨k5, h⟩ := h
    refine zc_8_535 (x0 := (13 : Int32)) hB rfl k5 d_8135_66 (Nat.le_of_ble_eq_true rfl) h (fun v7 S6 h => ?_)
    refine zu_ifeq (t := 94) d_8135_69 rfl (fun c8 => ?_) (fun c8 => ?_)
    · have h := h.1 c8
      exact (u_X9_fieldTyped_94 hB h).weak trivial
    · have h := h.2 c8
      refine zu_aload_n d_8135_72 rfl (zs_ra _) ?_
      obtain ⟨k9, h⟩ := h
      refine zc_8_538  hB rfl k9 d_8135_73 (Nat.le_of_ble_eq_true rfl) h (fun S10 h => ?_)
      refine zu_aload_n d_8135_76 rfl (zs_ra _) ?_
      refine zu_bipush d_8135_77 zj_39 ?_
      refine zu_iload_n d_8135_79 rfl ?_
      refine zu_aload_n d_8135_80 rfl (zs_ra _) ?_
      obtain ⟨k12, h⟩ := h
      refine zg_8_145 rfl d_8135_81 k12 ?_
      refine zu_iload_n d_8135_84 rfl ?_
      obtain ⟨b13, e14, h⟩ := h
      refine zs_stk1 (zs_rfe e14) ?_
      obtain ⟨k15, h⟩ := h
      refine zu_iald (k := 0) d_8135_85 rfl rfl k15 ?_
      refine zu_iload_n d_8135_86 rfl ?_
      refine zu_iload_n d_8135_87 rfl ?_
      refine zu_stk d_8135_88 rfl rfl ?_
      refine zu_iconst d_8135_89 zi_1 ?_
      refine zu_stk d_8135_90 rfl rfl ?_
      refine zc_8_649 (x0 := (39 : Int32)) (x1 := p1) (x2 := (zs_i S10 b13 p2.toNatClampNeg)) (x3 := ((p2 + p3) - (1 : Int32))) hB rfl k12 d_8135_91 (Nat.le_of_ble_eq_true rfl) h (fun S16 h => ?_)
      exact (u_X9_fieldTyped_94 hB h).weak trivial
  · have h := h.2 c1
    refine zu_aload_n d_8135_38 rfl (zs_ra _) ?_
    obtain ⟨k18, h⟩ := h
    refine zg_8_142 rfl d_8135_39 k18 ?_
    refine zu_iload_n d_8135_42 rfl ?_
    refine zu_iload d_8135_43 rfl ?_
    refine zu_stk d_8135_45 rfl rfl ?_
    refine zu_iload d_8135_46 rfl ?_
    obtain ⟨b19, e20, h⟩ := h
    refine zs_stk2 (zs_rfe e20) ?_
    obtain ⟨k21, h⟩ := h
    obtain ⟨k22, h⟩ := h
    refine zu_iast (k := 0) d_8135_48 rfl rfl k22 k21 ?_
    generalize e24 : zs_si S b19 (p2 + p5).toNatClampNeg p4 = S23
    have h := h S23 e24.symm
    have K25 : ∀ b, zs_K S23 b = zs_K S b := zs_Kt e24 (zs_Ksi _ _ _ _) (fun _ => rfl)
    refine zu_iinc d_8135_49 rfl zi_1 (zs_lt zq_8135 rfl) ?_
    refine zu_goto (t := 32) d_8135_52 rfl ?_
    exact h.weak ⟨rfl, rfl, rfl, rfl, rfl, rfl, trivial⟩
def w_X9_fieldTyped (X : zs_X) (d : Nat) (p0 : Nat) (p1 : Int32) (p2 : Int32) (p3 : Int32) (S : zs_T) (Q : zs_Q) : Prop :=
  (zs_K S p0 = some (.inl 8) ∧ (((zs_I S 8010 p0) ≤ 0 → (ab_n0 X.1 ≤ p0 ∧ ∀ S4, S4 = zs_sI S 8129 p0 ((zs_I S 8129 p0) - (1 : Int32)) → ∃ b7, (zs_R S4 8128 p0) = some b7 ∧ zs_A S b7 0 (zs_I S4 8129 p0) ∧ zs_U X d 8135 32 [(0, .ref p0), (1, .int p1), (2, .int p2), (3, .int p3), (4, .int (zs_i S4 b7 (zs_I S4 8129 p0).toNatClampNeg)), (5, .int (0 : Int32))] [] S4 Q)) ∧ (¬ ((zs_I S 8010 p0) ≤ 0) → (Q (.returned none) S))))
theorem u_X9_fieldTyped {σ : Nat → Nat} {n0 : Nat} {bf : ab_B} {d : Nat} {p0 : Nat} {p1 : Int32} {p2 : Int32} {p3 : Int32} {S : zs_T} {Q : zs_Q} (hB : zt_B bf) (hd : 1 ≤ d) (h : w_X9_fieldTyped (zx σ n0 bf) (d - 1) p0 p1 p2 p3 S Q) : zs_C (zx σ n0 bf) d 8135 [.ref p0, .int p1, .int p2, .int p3] S Q := by
  have hL : lv_args 0 [.ref p0, .int p1, .int p2, .int p3] = [(0, .ref p0), (1, .int p1), (2, .int p2), (3, .int p3)] := rfl
  refine zs_C.of1 (hB.2 8135 (by decide) (by decide)) hd (by rw [hL]; exact zs_sub_self _ (by exact ⟨rfl, rfl, rfl, rfl, trivial⟩)) ?_
  rw [hL]
  clear hL
  unfold w_X9_fieldTyped at h
  refine zu_aload_n d_8135_0 rfl (zs_ra _) ?_
  obtain ⟨k1, h⟩ := h
  refine zg_8_444 rfl d_8135_1 k1 ?_
  refine zu_ifle (t := 8) d_8135_4 rfl (fun c2 => ?_) (fun c2 => ?_)
  · have h := h.1 c2
    refine zu_aload_n d_8135_8 rfl (zs_ra _) ?_
    refine zu_dup d_8135_9 rfl ?_
    refine zg_8_831 rfl d_8135_10 k1 ?_
    refine zu_iconst d_8135_13 zi_1 ?_
    refine zu_stk d_8135_14 rfl rfl ?_
    obtain ⟨k3, h⟩ := h
    refine zp_8_831 (v := ((zs_I S 8129 p0) - (1 : Int32))) rfl d_8135_15 k1 k3 ?_
    generalize e5 : zs_sI S 8129 p0 ((zs_I S 8129 p0) - (1 : Int32)) = S4
    have h := h S4 e5.symm
    have K6 : ∀ b, zs_K S4 b = zs_K S b := zs_Kt e5 (zs_KsI _ _ _ _) (fun _ => rfl)
    refine zu_aload_n d_8135_18 rfl (zs_ra _) ?_
    refine zg_8_278 rfl d_8135_19 ((K6 _).trans k1) ?_
    refine zu_aload_n d_8135_22 rfl (zs_ra _) ?_
    refine zg_8_831 rfl d_8135_23 ((K6 _).trans k1) ?_
    obtain ⟨b7, e8, h⟩ := h
    refine zs_stk1 (zs_rfe e8) ?_
    obtain ⟨k9, h⟩ := h
    refine zu_iald (k := 0) d_8135_26 rfl rfl (zs_Ak K6 k9) ?_
    refine zu_istore d_8135_27 (zs_lt zq_8135 rfl) ?_
    refine zu_iconst d_8135_29 zi_0 ?_
    refine zu_istore d_8135_30 (zs_lt zq_8135 rfl) ?_
    exact h.weak ⟨rfl, rfl, rfl, rfl, rfl, rfl, trivial⟩
  · have h := h.2 c2
    exact zu_vret d_8135_7 zr_8135 h
/-! SchemaPascalModel.variant(II)V -/
theorem zm_8136 {σ : Nat → Nat} {n0 : Nat} {bf : ab_B} : ab_code (zx σ n0 bf).1 8136 = prog_17_method_131_code := rfl
theorem zq_8136 {σ : Nat → Nat} {n0 : Nat} {bf : ab_B} : ab_maxL (zx σ n0 bf).1 8136 = 4 := rfl
theorem zr_8136 {σ : Nat → Nat} {n0 : Nat} {bf : ab_B} : ab_ret (zx σ n0 bf).1 8136 = (Option.none : Option Jvm.ClassFile.FieldType) := rfl
theorem d_8136_0 {σ : Nat → Nat} {n0 : Nat} {bf : ab_B} : decode (ab_code (zx σ n0 bf).1 8136) 0 = .ok (.aload_n 0, 1) := zd zm_8136 (by decide +kernel)
theorem d_8136_1 {σ : Nat → Nat} {n0 : Nat} {bf : ab_B} : decode (ab_code (zx σ n0 bf).1 8136) 1 = .ok (.getfield 444, 3) := zd zm_8136 (by decide +kernel)
theorem d_8136_4 {σ : Nat → Nat} {n0 : Nat} {bf : ab_B} : decode (ab_code (zx σ n0 bf).1 8136) 4 = .ok (.ifCond .le 4, 3) := zd zm_8136 (by decide +kernel)
theorem d_8136_7 {σ : Nat → Nat} {n0 : Nat} {bf : ab_B} : decode (ab_code (zx σ n0 bf).1 8136) 7 = .ok (.return_, 1) := zd zm_8136 (by decide +kernel)
theorem d_8136_8 {σ : Nat → Nat} {n0 : Nat} {bf : ab_B} : decode (ab_code (zx σ n0 bf).1 8136) 8 = .ok (.aload_n 0, 1) := zd zm_8136 (by decide +kernel)
theorem d_8136_9 {σ : Nat → Nat} {n0 : Nat} {bf : ab_B} : decode (ab_code (zx σ n0 bf).1 8136) 9 = .ok (.dup, 1) := zd zm_8136 (by decide +kernel)
theorem d_8136_10 {σ : Nat → Nat} {n0 : Nat} {bf : ab_B} : decode (ab_code (zx σ n0 bf).1 8136) 10 = .ok (.getfield 590, 3) := zd zm_8136 (by decide +kernel)
theorem d_8136_13 {σ : Nat → Nat} {n0 : Nat} {bf : ab_B} : decode (ab_code (zx σ n0 bf).1 8136) 13 = .ok (.iconst 1, 1) := zd zm_8136 (by decide +kernel)
theorem d_8136_14 {σ : Nat → Nat} {n0 : Nat} {bf : ab_B} : decode (ab_code (zx σ n0 bf).1 8136) 14 = .ok (.iadd, 1) := zd zm_8136 (by decide +kernel)
theorem d_8136_15 {σ : Nat → Nat} {n0 : Nat} {bf : ab_B} : decode (ab_code (zx σ n0 bf).1 8136) 15 = .ok (.putfield 590, 3) := zd zm_8136 (by decide +kernel)
theorem d_8136_18 {σ : Nat → Nat} {n0 : Nat} {bf : ab_B} : decode (ab_code (zx σ n0 bf).1 8136) 18 = .ok (.aload_n 0, 1) := zd zm_8136 (by decide +kernel)
theorem d_8136_19 {σ : Nat → Nat} {n0 : Nat} {bf : ab_B} : decode (ab_code (zx σ n0 bf).1 8136) 19 = .ok (.getfield 590, 3) := zd zm_8136 (by decide +kernel)
theorem d_8136_22 {σ : Nat → Nat} {n0 : Nat} {bf : ab_B} : decode (ab_code (zx σ n0 bf).1 8136) 22 = .ok (.istore_n 3, 1) := zd zm_8136 (by decide +kernel)
theorem d_8136_23 {σ : Nat → Nat} {n0 : Nat} {bf : ab_B} : decode (ab_code (zx σ n0 bf).1 8136) 23 = .ok (.aload_n 0, 1) := zd zm_8136 (by decide +kernel)
theorem d_8136_24 {σ : Nat → Nat} {n0 : Nat} {bf : ab_B} : decode (ab_code (zx σ n0 bf).1 8136) 24 = .ok (.getfield 154, 3) := zd zm_8136 (by decide +kernel)
theorem d_8136_27 {σ : Nat → Nat} {n0 : Nat} {bf : ab_B} : decode (ab_code (zx σ n0 bf).1 8136) 27 = .ok (.iload_n 3, 1) := zd zm_8136 (by decide +kernel)
theorem d_8136_28 {σ : Nat → Nat} {n0 : Nat} {bf : ab_B} : decode (ab_code (zx σ n0 bf).1 8136) 28 = .ok (.iload_n 2, 1) := zd zm_8136 (by decide +kernel)
theorem d_8136_29 {σ : Nat → Nat} {n0 : Nat} {bf : ab_B} : decode (ab_code (zx σ n0 bf).1 8136) 29 = .ok (.iastore, 1) := zd zm_8136 (by decide +kernel)
theorem d_8136_30 {σ : Nat → Nat} {n0 : Nat} {bf : ab_B} : decode (ab_code (zx σ n0 bf).1 8136) 30 = .ok (.aload_n 0, 1) := zd zm_8136 (by decide +kernel)
theorem d_8136_31 {σ : Nat → Nat} {n0 : Nat} {bf : ab_B} : decode (ab_code (zx σ n0 bf).1 8136) 31 = .ok (.getfield 157, 3) := zd zm_8136 (by decide +kernel)
theorem d_8136_34 {σ : Nat → Nat} {n0 : Nat} {bf : ab_B} : decode (ab_code (zx σ n0 bf).1 8136) 34 = .ok (.iload_n 3, 1) := zd zm_8136 (by decide +kernel)
theorem d_8136_35 {σ : Nat → Nat} {n0 : Nat} {bf : ab_B} : decode (ab_code (zx σ n0 bf).1 8136) 35 = .ok (.aload_n 0, 1) := zd zm_8136 (by decide +kernel)
theorem d_8136_36 {σ : Nat → Nat} {n0 : Nat} {bf : ab_B} : decode (ab_code (zx σ n0 bf).1 8136) 36 = .ok (.getfield 172, 3) := zd zm_8136 (by decide +kernel)
theorem d_8136_39 {σ : Nat → Nat} {n0 : Nat} {bf : ab_B} : decode (ab_code (zx σ n0 bf).1 8136) 39 = .ok (.iload_n 2, 1) := zd zm_8136 (by decide +kernel)
theorem d_8136_40 {σ : Nat → Nat} {n0 : Nat} {bf : ab_B} : decode (ab_code (zx σ n0 bf).1 8136) 40 = .ok (.iaload, 1) := zd zm_8136 (by decide +kernel)
theorem d_8136_41 {σ : Nat → Nat} {n0 : Nat} {bf : ab_B} : decode (ab_code (zx σ n0 bf).1 8136) 41 = .ok (.iastore, 1) := zd zm_8136 (by decide +kernel)
theorem d_8136_42 {σ : Nat → Nat} {n0 : Nat} {bf : ab_B} : decode (ab_code (zx σ n0 bf).1 8136) 42 = .ok (.aload_n 0, 1) := zd zm_8136 (by decide +kernel)
theorem d_8136_43 {σ : Nat → Nat} {n0 : Nat} {bf : ab_B} : decode (ab_code (zx σ n0 bf).1 8136) 43 = .ok (.getfield 172, 3) := zd zm_8136 (by decide +kernel)
theorem d_8136_46 {σ : Nat → Nat} {n0 : Nat} {bf : ab_B} : decode (ab_code (zx σ n0 bf).1 8136) 46 = .ok (.iload_n 2, 1) := zd zm_8136 (by decide +kernel)
theorem d_8136_47 {σ : Nat → Nat} {n0 : Nat} {bf : ab_B} : decode (ab_code (zx σ n0 bf).1 8136) 47 = .ok (.iload_n 3, 1) := zd zm_8136 (by decide +kernel)
theorem d_8136_48 {σ : Nat → Nat} {n0 : Nat} {bf : ab_B} : decode (ab_code (zx σ n0 bf).1 8136) 48 = .ok (.iastore, 1) := zd zm_8136 (by decide +kernel)
theorem d_8136_49 {σ : Nat → Nat} {n0 : Nat} {bf : ab_B} : decode (ab_code (zx σ n0 bf).1 8136) 49 = .ok (.aload_n 0, 1) := zd zm_8136 (by decide +kernel)
theorem d_8136_50 {σ : Nat → Nat} {n0 : Nat} {bf : ab_B} : decode (ab_code (zx σ n0 bf).1 8136) 50 = .ok (.getfield 160, 3) := zd zm_8136 (by decide +kernel)
theorem d_8136_53 {σ : Nat → Nat} {n0 : Nat} {bf : ab_B} : decode (ab_code (zx σ n0 bf).1 8136) 53 = .ok (.iload_n 3, 1) := zd zm_8136 (by decide +kernel)
theorem d_8136_54 {σ : Nat → Nat} {n0 : Nat} {bf : ab_B} : decode (ab_code (zx σ n0 bf).1 8136) 54 = .ok (.iconst 0, 1) := zd zm_8136 (by decide +kernel)
theorem d_8136_55 {σ : Nat → Nat} {n0 : Nat} {bf : ab_B} : decode (ab_code (zx σ n0 bf).1 8136) 55 = .ok (.iastore, 1) := zd zm_8136 (by decide +kernel)
theorem d_8136_56 {σ : Nat → Nat} {n0 : Nat} {bf : ab_B} : decode (ab_code (zx σ n0 bf).1 8136) 56 = .ok (.aload_n 0, 1) := zd zm_8136 (by decide +kernel)
theorem d_8136_57 {σ : Nat → Nat} {n0 : Nat} {bf : ab_B} : decode (ab_code (zx σ n0 bf).1 8136) 57 = .ok (.bipush 44, 2) := zd zm_8136 (by decide +kernel)
theorem d_8136_59 {σ : Nat → Nat} {n0 : Nat} {bf : ab_B} : decode (ab_code (zx σ n0 bf).1 8136) 59 = .ok (.iload_n 1, 1) := zd zm_8136 (by decide +kernel)
theorem d_8136_60 {σ : Nat → Nat} {n0 : Nat} {bf : ab_B} : decode (ab_code (zx σ n0 bf).1 8136) 60 = .ok (.iload_n 2, 1) := zd zm_8136 (by decide +kernel)
theorem d_8136_61 {σ : Nat → Nat} {n0 : Nat} {bf : ab_B} : decode (ab_code (zx σ n0 bf).1 8136) 61 = .ok (.iconst 0, 1) := zd zm_8136 (by decide +kernel)
theorem d_8136_62 {σ : Nat → Nat} {n0 : Nat} {bf : ab_B} : decode (ab_code (zx σ n0 bf).1 8136) 62 = .ok (.invokevirtual 649, 3) := zd zm_8136 (by decide +kernel)
theorem d_8136_65 {σ : Nat → Nat} {n0 : Nat} {bf : ab_B} : decode (ab_code (zx σ n0 bf).1 8136) 65 = .ok (.aload_n 0, 1) := zd zm_8136 (by decide +kernel)
theorem d_8136_66 {σ : Nat → Nat} {n0 : Nat} {bf : ab_B} : decode (ab_code (zx σ n0 bf).1 8136) 66 = .ok (.invokevirtual 706, 3) := zd zm_8136 (by decide +kernel)
theorem d_8136_69 {σ : Nat → Nat} {n0 : Nat} {bf : ab_B} : decode (ab_code (zx σ n0 bf).1 8136) 69 = .ok (.aload_n 0, 1) := zd zm_8136 (by decide +kernel)
theorem d_8136_70 {σ : Nat → Nat} {n0 : Nat} {bf : ab_B} : decode (ab_code (zx σ n0 bf).1 8136) 70 = .ok (.bipush 47, 2) := zd zm_8136 (by decide +kernel)
theorem d_8136_72 {σ : Nat → Nat} {n0 : Nat} {bf : ab_B} : decode (ab_code (zx σ n0 bf).1 8136) 72 = .ok (.iconst 0, 1) := zd zm_8136 (by decide +kernel)
theorem d_8136_73 {σ : Nat → Nat} {n0 : Nat} {bf : ab_B} : decode (ab_code (zx σ n0 bf).1 8136) 73 = .ok (.iconst 0, 1) := zd zm_8136 (by decide +kernel)
theorem d_8136_74 {σ : Nat → Nat} {n0 : Nat} {bf : ab_B} : decode (ab_code (zx σ n0 bf).1 8136) 74 = .ok (.iconst 0, 1) := zd zm_8136 (by decide +kernel)
theorem d_8136_75 {σ : Nat → Nat} {n0 : Nat} {bf : ab_B} : decode (ab_code (zx σ n0 bf).1 8136) 75 = .ok (.invokevirtual 649, 3) := zd zm_8136 (by decide +kernel)
theorem d_8136_78 {σ : Nat → Nat} {n0 : Nat} {bf : ab_B} : decode (ab_code (zx σ n0 bf).1 8136) 78 = .ok (.aload_n 0, 1) := zd zm_8136 (by decide +kernel)
theorem d_8136_79 {σ : Nat → Nat} {n0 : Nat} {bf : ab_B} : decode (ab_code (zx σ n0 bf).1 8136) 79 = .ok (.bipush 42, 2) := zd zm_8136 (by decide +kernel)
theorem d_8136_81 {σ : Nat → Nat} {n0 : Nat} {bf : ab_B} : decode (ab_code (zx σ n0 bf).1 8136) 81 = .ok (.iload_n 1, 1) := zd zm_8136 (by decide +kernel)
theorem d_8136_82 {σ : Nat → Nat} {n0 : Nat} {bf : ab_B} : decode (ab_code (zx σ n0 bf).1 8136) 82 = .ok (.iload_n 3, 1) := zd zm_8136 (by decide +kernel)
theorem d_8136_83 {σ : Nat → Nat} {n0 : Nat} {bf : ab_B} : decode (ab_code (zx σ n0 bf).1 8136) 83 = .ok (.iconst 0, 1) := zd zm_8136 (by decide +kernel)
theorem d_8136_84 {σ : Nat → Nat} {n0 : Nat} {bf : ab_B} : decode (ab_code (zx σ n0 bf).1 8136) 84 = .ok (.invokevirtual 649, 3) := zd zm_8136 (by decide +kernel)
theorem d_8136_87 {σ : Nat → Nat} {n0 : Nat} {bf : ab_B} : decode (ab_code (zx σ n0 bf).1 8136) 87 = .ok (.aload_n 0, 1) := zd zm_8136 (by decide +kernel)
theorem d_8136_88 {σ : Nat → Nat} {n0 : Nat} {bf : ab_B} : decode (ab_code (zx σ n0 bf).1 8136) 88 = .ok (.iconst 2, 1) := zd zm_8136 (by decide +kernel)
theorem d_8136_89 {σ : Nat → Nat} {n0 : Nat} {bf : ab_B} : decode (ab_code (zx σ n0 bf).1 8136) 89 = .ok (.iconst 0, 1) := zd zm_8136 (by decide +kernel)
theorem d_8136_90 {σ : Nat → Nat} {n0 : Nat} {bf : ab_B} : decode (ab_code (zx σ n0 bf).1 8136) 90 = .ok (.iconst 0, 1) := zd zm_8136 (by decide +kernel)
theorem d_8136_91 {σ : Nat → Nat} {n0 : Nat} {bf : ab_B} : decode (ab_code (zx σ n0 bf).1 8136) 91 = .ok (.iconst 0, 1) := zd zm_8136 (by decide +kernel)
theorem d_8136_92 {σ : Nat → Nat} {n0 : Nat} {bf : ab_B} : decode (ab_code (zx σ n0 bf).1 8136) 92 = .ok (.invokevirtual 649, 3) := zd zm_8136 (by decide +kernel)
theorem d_8136_95 {σ : Nat → Nat} {n0 : Nat} {bf : ab_B} : decode (ab_code (zx σ n0 bf).1 8136) 95 = .ok (.return_, 1) := zd zm_8136 (by decide +kernel)
def w_X9_variant_87 (X : zs_X) (d : Nat) (p0 : Nat) (S : zs_T) (Q : zs_Q) : Prop :=
  (zs_K S p0 = some (.inl 8) ∧ zs_C X d 8030 [.ref p0, .int (2 : Int32), .int (0 : Int32), .int (0 : Int32), .int (0 : Int32)] S (zs_kV (fun S2 => (Q (.returned none) S2)) Q))
theorem u_X9_variant_87 {σ : Nat → Nat} {n0 : Nat} {bf : ab_B} {d : Nat} {p0 : Nat} {S : zs_T} {Q : zs_Q} (hB : zt_B bf) (h : w_X9_variant_87 (zx σ n0 bf) d p0 S Q) : zs_U (zx σ n0 bf) d 8136 87 [(0, .ref p0)] [] S Q := by
  unfold w_X9_variant_87 at h
  refine zu_aload_n d_8136_87 rfl (zs_ra _) ?_
  refine zu_iconst d_8136_88 zi_2 ?_
  refine zu_iconst d_8136_89 zi_0 ?_
  refine zu_iconst d_8136_90 zi_0 ?_
  refine zu_iconst d_8136_91 zi_0 ?_
  obtain ⟨k1, h⟩ := h
  refine zc_8_649 (x0 := (2 : Int32)) (x1 := (0 : Int32)) (x2 := (0 : Int32)) (x3 := (0 : Int32)) hB rfl k1 d_8136_92 (Nat.le_of_ble_eq_true rfl) h (fun S2 h => ?_)
  exact zu_vret d_8136_95 zr_8136 h
def w_X9_variant_56 (X : zs_X) (d : Nat) (p0 : Nat) (p1 : Int32) (p2 : Int32) (p3 : Int32) (S : zs_T) (Q : zs_Q) : Prop :=
  (zs_K S p0 = some (.inl 8) ∧ zs_C X d 8030 [.ref p0, .int (44 : Int32), .int p1, .int p2, .int (0 : Int32)] S (zs_kV (fun S2 => (zs_K S2 p0 = some (.inl 8) ∧ zs_C X d 8060 [.ref p0] S2 (zs_kV (fun S5 => (zs_K S5 p0 = some (.inl 8) ∧ zs_C X d 8030 [.ref p0, .int (47 : Int32), .int (0 : Int32), .int (0 : Int32), .int (0 : Int32)] S5 (zs_kV (fun S8 => (zs_K S8 p0 = some (.inl 8) ∧ zs_C X d 8030 [.ref p0, .int (42 : Int32), .int p1, .int p3, .int (0 : Int32)] S8 (zs_kV (fun S11 => w_X9_variant_87 X d p0 S11 Q) Q))) Q))) Q))) Q))
theorem u_X9_variant_56 {σ : Nat → Nat} {n0 : Nat} {bf : ab_B} {d : Nat} {p0 : Nat} {p1 : Int32} {p2 : Int32} {p3 : Int32} {S : zs_T} {Q : zs_Q} (hB : zt_B bf) (h : w_X9_variant_56 (zx σ n0 bf) d p0 p1 p2 p3 S Q) : zs_U (zx σ n0 bf) d 8136 56 [(0, .ref p0), (1, .int p1), (2, .int p2), (3, .int p3)] [] S Q := by
  unfold w_X9_variant_56 at h
  refine zu_aload_n d_8136_56 rfl (zs_ra _) ?_
  refine zu_bipush d_8136_57 zj_44 ?_
  refine zu_iload_n d_8136_59 rfl ?_
  refine zu_iload_n d_8136_60 rfl ?_
  refine zu_iconst d_8136_61 zi_0 ?_
  obtain ⟨k1, h⟩ := h
  refine zc_8_649 (x0 := (44 : Int32)) (x1 := p1) (x2 := p2) (x3 := (0 : Int32)) hB rfl k1 d_8136_62 (Nat.le_of_ble_eq_true rfl) h (fun S2 h => ?_)
  refine zu_aload_n d_8136_65 rfl (zs_ra _) ?_
  obtain ⟨k4, h⟩ := h
  refine zc_8_706  hB rfl k4 d_8136_66 (Nat.le_of_ble_eq_true rfl) h (fun S5 h => ?_)
  refine zu_aload_n d_8136_69 rfl (zs_ra _) ?_
  refine zu_bipush d_8136_70 zj_47 ?_
  refine zu_iconst d_8136_72 zi_0 ?_
  refine zu_iconst d_8136_73 zi_0 ?_
  refine zu_iconst d_8136_74 zi_0 ?_
  obtain ⟨k7, h⟩ := h
  refine zc_8_649 (x0 := (47 : Int32)) (x1 := (0 : Int32)) (x2 := (0 : Int32)) (x3 := (0 : Int32)) hB rfl k7 d_8136_75 (Nat.le_of_ble_eq_true rfl) h (fun S8 h => ?_)
  refine zu_aload_n d_8136_78 rfl (zs_ra _) ?_
  refine zu_bipush d_8136_79 zj_42 ?_
  refine zu_iload_n d_8136_81 rfl ?_
  refine zu_iload_n d_8136_82 rfl ?_
  refine zu_iconst d_8136_83 zi_0 ?_
  obtain ⟨k10, h⟩ := h
  refine zc_8_649 (x0 := (42 : Int32)) (x1 := p1) (x2 := p3) (x3 := (0 : Int32)) hB rfl k10 d_8136_84 (Nat.le_of_ble_eq_true rfl) h (fun S11 h => ?_)
  exact (u_X9_variant_87 hB h).weak ⟨rfl, trivial⟩
def w_X9_variant_30 (X : zs_X) (d : Nat) (p0 : Nat) (p1 : Int32) (p2 : Int32) (p3 : Int32) (S : zs_T) (Q : zs_Q) : Prop :=
  (zs_K S p0 = some (.inl 8) ∧ ∃ b2, (zs_R S 8078 p0) = some b2 ∧ zs_A S b2 0 p2 ∧ ∃ b5, (zs_R S 8071 p0) = some b5 ∧ zs_A S b5 0 p3 ∧ ab_n0 X.1 ≤ b5 ∧ ∀ S9, S9 = zs_si S b5 p3.toNatClampNeg (zs_i S b2 p2.toNatClampNeg) → ∃ b12, (zs_R S9 8078 p0) = some b12 ∧ zs_A S b12 0 p2 ∧ ab_n0 X.1 ≤ b12 ∧ ∀ S16, S16 = zs_si S9 b12 p2.toNatClampNeg p3 → ∃ b19, (zs_R S16 8072 p0) = some b19 ∧ zs_A S b19 0 p3 ∧ ab_n0 X.1 ≤ b19 ∧ ∀ S23, S23 = zs_si S16 b19 p3.toNatClampNeg (0 : Int32) → w_X9_variant_56 X d p0 p1 p2 p3 S23 Q)
theorem u_X9_variant_30 {σ : Nat → Nat} {n0 : Nat} {bf : ab_B} {d : Nat} {p0 : Nat} {p1 : Int32} {p2 : Int32} {p3 : Int32} {S : zs_T} {Q : zs_Q} (hB : zt_B bf) (h : w_X9_variant_30 (zx σ n0 bf) d p0 p1 p2 p3 S Q) : zs_U (zx σ n0 bf) d 8136 30 [(0, .ref p0), (1, .int p1), (2, .int p2), (3, .int p3)] [] S Q := by
  unfold w_X9_variant_30 at h
  refine zu_aload_n d_8136_30 rfl (zs_ra _) ?_
  obtain ⟨k1, h⟩ := h
  refine zg_8_157 rfl d_8136_31 k1 ?_
  refine zu_iload_n d_8136_34 rfl ?_
  refine zu_aload_n d_8136_35 rfl (zs_ra _) ?_
  refine zg_8_172 rfl d_8136_36 k1 ?_
  refine zu_iload_n d_8136_39 rfl ?_
  obtain ⟨b2, e3, h⟩ := h
  refine zs_stk1 (zs_rfe e3) ?_
  obtain ⟨k4, h⟩ := h
  refine zu_iald (k := 0) d_8136_40 rfl rfl k4 ?_
  obtain ⟨b5, e6, h⟩ := h
  refine zs_stk2 (zs_rfe e6) ?_
  obtain ⟨k7, h⟩ := h
  obtain ⟨k8, h⟩ := h
  refine zu_iast (k := 0) d_8136_41 rfl rfl k8 k7 ?_
  generalize e10 : zs_si S b5 p3.toNatClampNeg (zs_i S b2 p2.toNatClampNeg) = S9
  have h := h S9 e10.symm
  have K11 : ∀ b, zs_K S9 b = zs_K S b := zs_Kt e10 (zs_Ksi _ _ _ _) (fun _ => rfl)
  refine zu_aload_n d_8136_42 rfl (zs_ra _) ?_
  refine zg_8_172 rfl d_8136_43 ((K11 _).trans k1) ?_
  refine zu_iload_n d_8136_46 rfl ?_
  refine zu_iload_n d_8136_47 rfl ?_
  obtain ⟨b12, e13, h⟩ := h
  refine zs_stk2 (zs_rfe e13) ?_
  obtain ⟨k14, h⟩ := h
  obtain ⟨k15, h⟩ := h
  refine zu_iast (k := 0) d_8136_48 rfl rfl k15 (zs_Ak K11 k14) ?_
  generalize e17 : zs_si S9 b12 p2.toNatClampNeg p3 = S16
  have h := h S16 e17.symm
  have K18 : ∀ b, zs_K S16 b = zs_K S b := zs_Kt e17 (zs_Ksi _ _ _ _) K11
  refine zu_aload_n d_8136_49 rfl (zs_ra _) ?_
  refine zg_8_160 rfl d_8136_50 ((K18 _).trans k1) ?_
  refine zu_iload_n d_8136_53 rfl ?_
  refine zu_iconst d_8136_54 zi_0 ?_
  obtain ⟨b19, e20, h⟩ := h
  refine zs_stk2 (zs_rfe e20) ?_
  obtain ⟨k21, h⟩ := h
  obtain ⟨k22, h⟩ := h
  refine zu_iast (k := 0) d_8136_55 rfl rfl k22 (zs_Ak K18 k21) ?_
  generalize e24 : zs_si S16 b19 p3.toNatClampNeg (0 : Int32) = S23
  have h := h S23 e24.symm
  have K25 : ∀ b, zs_K S23 b = zs_K S b := zs_Kt e24 (zs_Ksi _ _ _ _) K18
  exact (u_X9_variant_56 hB h).weak ⟨rfl, rfl, rfl, rfl, trivial⟩
def w_X9_variant (X : zs_X) (d : Nat) (p0 : Nat) (p1 : Int32) (p2 : Int32) (S : zs_T) (Q : zs_Q) : Prop :=
  (zs_K S p0 = some (.inl 8) ∧ (((zs_I S 8010 p0) ≤ 0 → (ab_n0 X.1 ≤ p0 ∧ ∀ S4, S4 = zs_sI S 8073 p0 ((zs_I S 8073 p0) + (1 : Int32)) → ∃ b7, (zs_R S4 8070 p0) = some b7 ∧ zs_A S b7 0 (zs_I S4 8073 p0) ∧ ab_n0 X.1 ≤ b7 ∧ ∀ S11, S11 = zs_si S4 b7 (zs_I S4 8073 p0).toNatClampNeg p2 → w_X9_variant_30 X d p0 p1 p2 (zs_I S4 8073 p0) S11 Q)) ∧ (¬ ((zs_I S 8010 p0) ≤ 0) → (Q (.returned none) S))))
theorem u_X9_variant {σ : Nat → Nat} {n0 : Nat} {bf : ab_B} {d : Nat} {p0 : Nat} {p1 : Int32} {p2 : Int32} {S : zs_T} {Q : zs_Q} (hB : zt_B bf) (hd : 1 ≤ d) (h : w_X9_variant (zx σ n0 bf) (d - 1) p0 p1 p2 S Q) : zs_C (zx σ n0 bf) d 8136 [.ref p0, .int p1, .int p2] S Q := by
  have hL : lv_args 0 [.ref p0, .int p1, .int p2] = [(0, .ref p0), (1, .int p1), (2, .int p2)] := rfl
  refine zs_C.of1 (hB.2 8136 (by decide) (by decide)) hd (by rw [hL]; exact zs_sub_self _ (by exact ⟨rfl, rfl, rfl, trivial⟩)) ?_
  rw [hL]
  clear hL
  unfold w_X9_variant at h
  refine zu_aload_n d_8136_0 rfl (zs_ra _) ?_
  obtain ⟨k1, h⟩ := h
  refine zg_8_444 rfl d_8136_1 k1 ?_
  refine zu_ifle (t := 8) d_8136_4 rfl (fun c2 => ?_) (fun c2 => ?_)
  · have h := h.1 c2
    refine zu_aload_n d_8136_8 rfl (zs_ra _) ?_
    refine zu_dup d_8136_9 rfl ?_
    refine zg_8_590 rfl d_8136_10 k1 ?_
    refine zu_iconst d_8136_13 zi_1 ?_
    refine zu_stk d_8136_14 rfl rfl ?_
    obtain ⟨k3, h⟩ := h
    refine zp_8_590 (v := ((zs_I S 8073 p0) + (1 : Int32))) rfl d_8136_15 k1 k3 ?_
    generalize e5 : zs_sI S 8073 p0 ((zs_I S 8073 p0) + (1 : Int32)) = S4
    have h := h S4 e5.symm
    have K6 : ∀ b, zs_K S4 b = zs_K S b := zs_Kt e5 (zs_KsI _ _ _ _) (fun _ => rfl)
    refine zu_aload_n d_8136_18 rfl (zs_ra _) ?_
    refine zg_8_590 rfl d_8136_19 ((K6 _).trans k1) ?_
    refine zu_istore_n d_8136_22 (zs_lt zq_8136 rfl) ?_
    refine zu_aload_n d_8136_23 rfl (zs_ra _) ?_
    refine zg_8_154 rfl d_8136_24 ((K6 _).trans k1) ?_
    refine zu_iload_n d_8136_27 rfl ?_
    refine zu_iload_n d_8136_28 rfl ?_
    obtain ⟨b7, e8, h⟩ := h
    refine zs_stk2 (zs_rfe e8) ?_
    obtain ⟨k9, h⟩ := h
    obtain ⟨k10, h⟩ := h
    refine zu_iast (k := 0) d_8136_29 rfl rfl k10 (zs_Ak K6 k9) ?_
    generalize e12 : zs_si S4 b7 (zs_I S4 8073 p0).toNatClampNeg p2 = S11
    have h := h S11 e12.symm
    have K13 : ∀ b, zs_K S11 b = zs_K S b := zs_Kt e12 (zs_Ksi _ _ _ _) K6
    exact (u_X9_variant_30 hB h).weak ⟨rfl, rfl, rfl, rfl, trivial⟩
  · have h := h.2 c2
    exact zu_vret d_8136_7 zr_8136 h
/-! SchemaPascalModel.label(IIZ)V -/
theorem zm_8137 {σ : Nat → Nat} {n0 : Nat} {bf : ab_B} : ab_code (zx σ n0 bf).1 8137 = prog_17_method_135_code := rfl
theorem zq_8137 {σ : Nat → Nat} {n0 : Nat} {bf : ab_B} : ab_maxL (zx σ n0 bf).1 8137 = 11 := rfl
theorem zr_8137 {σ : Nat → Nat} {n0 : Nat} {bf : ab_B} : ab_ret (zx σ n0 bf).1 8137 = (Option.none : Option Jvm.ClassFile.FieldType) := rfl
theorem d_8137_0 {σ : Nat → Nat} {n0 : Nat} {bf : ab_B} : decode (ab_code (zx σ n0 bf).1 8137) 0 = .ok (.aload_n 0, 1) := zd zm_8137 (by decide +kernel)
theorem d_8137_1 {σ : Nat → Nat} {n0 : Nat} {bf : ab_B} : decode (ab_code (zx σ n0 bf).1 8137) 1 = .ok (.getfield 154, 3) := zd zm_8137 (by decide +kernel)
theorem d_8137_4 {σ : Nat → Nat} {n0 : Nat} {bf : ab_B} : decode (ab_code (zx σ n0 bf).1 8137) 4 = .ok (.iload_n 2, 1) := zd zm_8137 (by decide +kernel)
theorem d_8137_5 {σ : Nat → Nat} {n0 : Nat} {bf : ab_B} : decode (ab_code (zx σ n0 bf).1 8137) 5 = .ok (.iaload, 1) := zd zm_8137 (by decide +kernel)
theorem d_8137_6 {σ : Nat → Nat} {n0 : Nat} {bf : ab_B} : decode (ab_code (zx σ n0 bf).1 8137) 6 = .ok (.istore 4, 2) := zd zm_8137 (by decide +kernel)
theorem d_8137_8 {σ : Nat → Nat} {n0 : Nat} {bf : ab_B} : decode (ab_code (zx σ n0 bf).1 8137) 8 = .ok (.aload_n 0, 1) := zd zm_8137 (by decide +kernel)
theorem d_8137_9 {σ : Nat → Nat} {n0 : Nat} {bf : ab_B} : decode (ab_code (zx σ n0 bf).1 8137) 9 = .ok (.aload_n 0, 1) := zd zm_8137 (by decide +kernel)
theorem d_8137_10 {σ : Nat → Nat} {n0 : Nat} {bf : ab_B} : decode (ab_code (zx σ n0 bf).1 8137) 10 = .ok (.getfield 142, 3) := zd zm_8137 (by decide +kernel)
theorem d_8137_13 {σ : Nat → Nat} {n0 : Nat} {bf : ab_B} : decode (ab_code (zx σ n0 bf).1 8137) 13 = .ok (.iload 4, 2) := zd zm_8137 (by decide +kernel)
theorem d_8137_15 {σ : Nat → Nat} {n0 : Nat} {bf : ab_B} : decode (ab_code (zx σ n0 bf).1 8137) 15 = .ok (.iaload, 1) := zd zm_8137 (by decide +kernel)
theorem d_8137_16 {σ : Nat → Nat} {n0 : Nat} {bf : ab_B} : decode (ab_code (zx σ n0 bf).1 8137) 16 = .ok (.invokevirtual 912, 3) := zd zm_8137 (by decide +kernel)
theorem d_8137_19 {σ : Nat → Nat} {n0 : Nat} {bf : ab_B} : decode (ab_code (zx σ n0 bf).1 8137) 19 = .ok (.lstore 5, 2) := zd zm_8137 (by decide +kernel)
theorem d_8137_21 {σ : Nat → Nat} {n0 : Nat} {bf : ab_B} : decode (ab_code (zx σ n0 bf).1 8137) 21 = .ok (.aload_n 0, 1) := zd zm_8137 (by decide +kernel)
theorem d_8137_22 {σ : Nat → Nat} {n0 : Nat} {bf : ab_B} : decode (ab_code (zx σ n0 bf).1 8137) 22 = .ok (.getfield 444, 3) := zd zm_8137 (by decide +kernel)
theorem d_8137_25 {σ : Nat → Nat} {n0 : Nat} {bf : ab_B} : decode (ab_code (zx σ n0 bf).1 8137) 25 = .ok (.ifCond .le 4, 3) := zd zm_8137 (by decide +kernel)
theorem d_8137_28 {σ : Nat → Nat} {n0 : Nat} {bf : ab_B} : decode (ab_code (zx σ n0 bf).1 8137) 28 = .ok (.return_, 1) := zd zm_8137 (by decide +kernel)
theorem d_8137_29 {σ : Nat → Nat} {n0 : Nat} {bf : ab_B} : decode (ab_code (zx σ n0 bf).1 8137) 29 = .ok (.iload_n 3, 1) := zd zm_8137 (by decide +kernel)
theorem d_8137_30 {σ : Nat → Nat} {n0 : Nat} {bf : ab_B} : decode (ab_code (zx σ n0 bf).1 8137) 30 = .ok (.ifCond .ne 53, 3) := zd zm_8137 (by decide +kernel)
theorem d_8137_33 {σ : Nat → Nat} {n0 : Nat} {bf : ab_B} : decode (ab_code (zx σ n0 bf).1 8137) 33 = .ok (.aload_n 0, 1) := zd zm_8137 (by decide +kernel)
theorem d_8137_34 {σ : Nat → Nat} {n0 : Nat} {bf : ab_B} : decode (ab_code (zx σ n0 bf).1 8137) 34 = .ok (.bipush 21, 2) := zd zm_8137 (by decide +kernel)
theorem d_8137_36 {σ : Nat → Nat} {n0 : Nat} {bf : ab_B} : decode (ab_code (zx σ n0 bf).1 8137) 36 = .ok (.invokevirtual 535, 3) := zd zm_8137 (by decide +kernel)
theorem d_8137_39 {σ : Nat → Nat} {n0 : Nat} {bf : ab_B} : decode (ab_code (zx σ n0 bf).1 8137) 39 = .ok (.ifCond .eq 44, 3) := zd zm_8137 (by decide +kernel)
theorem d_8137_42 {σ : Nat → Nat} {n0 : Nat} {bf : ab_B} : decode (ab_code (zx σ n0 bf).1 8137) 42 = .ok (.aload_n 0, 1) := zd zm_8137 (by decide +kernel)
theorem d_8137_43 {σ : Nat → Nat} {n0 : Nat} {bf : ab_B} : decode (ab_code (zx σ n0 bf).1 8137) 43 = .ok (.getfield 293, 3) := zd zm_8137 (by decide +kernel)
theorem d_8137_46 {σ : Nat → Nat} {n0 : Nat} {bf : ab_B} : decode (ab_code (zx σ n0 bf).1 8137) 46 = .ok (.iload_n 2, 1) := zd zm_8137 (by decide +kernel)
theorem d_8137_47 {σ : Nat → Nat} {n0 : Nat} {bf : ab_B} : decode (ab_code (zx σ n0 bf).1 8137) 47 = .ok (.lload 5, 2) := zd zm_8137 (by decide +kernel)
theorem d_8137_49 {σ : Nat → Nat} {n0 : Nat} {bf : ab_B} : decode (ab_code (zx σ n0 bf).1 8137) 49 = .ok (.l2i, 1) := zd zm_8137 (by decide +kernel)
theorem d_8137_50 {σ : Nat → Nat} {n0 : Nat} {bf : ab_B} : decode (ab_code (zx σ n0 bf).1 8137) 50 = .ok (.iastore, 1) := zd zm_8137 (by decide +kernel)
theorem d_8137_51 {σ : Nat → Nat} {n0 : Nat} {bf : ab_B} : decode (ab_code (zx σ n0 bf).1 8137) 51 = .ok (.aload_n 0, 1) := zd zm_8137 (by decide +kernel)
theorem d_8137_52 {σ : Nat → Nat} {n0 : Nat} {bf : ab_B} : decode (ab_code (zx σ n0 bf).1 8137) 52 = .ok (.getfield 296, 3) := zd zm_8137 (by decide +kernel)
theorem d_8137_55 {σ : Nat → Nat} {n0 : Nat} {bf : ab_B} : decode (ab_code (zx σ n0 bf).1 8137) 55 = .ok (.iload_n 2, 1) := zd zm_8137 (by decide +kernel)
theorem d_8137_56 {σ : Nat → Nat} {n0 : Nat} {bf : ab_B} : decode (ab_code (zx σ n0 bf).1 8137) 56 = .ok (.aload_n 0, 1) := zd zm_8137 (by decide +kernel)
theorem d_8137_57 {σ : Nat → Nat} {n0 : Nat} {bf : ab_B} : decode (ab_code (zx σ n0 bf).1 8137) 57 = .ok (.getfield 909, 3) := zd zm_8137 (by decide +kernel)
theorem d_8137_60 {σ : Nat → Nat} {n0 : Nat} {bf : ab_B} : decode (ab_code (zx σ n0 bf).1 8137) 60 = .ok (.bastore, 1) := zd zm_8137 (by decide +kernel)
theorem d_8137_61 {σ : Nat → Nat} {n0 : Nat} {bf : ab_B} : decode (ab_code (zx σ n0 bf).1 8137) 61 = .ok (.aload_n 0, 1) := zd zm_8137 (by decide +kernel)
theorem d_8137_62 {σ : Nat → Nat} {n0 : Nat} {bf : ab_B} : decode (ab_code (zx σ n0 bf).1 8137) 62 = .ok (.bipush 43, 2) := zd zm_8137 (by decide +kernel)
theorem d_8137_64 {σ : Nat → Nat} {n0 : Nat} {bf : ab_B} : decode (ab_code (zx σ n0 bf).1 8137) 64 = .ok (.iload_n 1, 1) := zd zm_8137 (by decide +kernel)
theorem d_8137_65 {σ : Nat → Nat} {n0 : Nat} {bf : ab_B} : decode (ab_code (zx σ n0 bf).1 8137) 65 = .ok (.iload_n 2, 1) := zd zm_8137 (by decide +kernel)
theorem d_8137_66 {σ : Nat → Nat} {n0 : Nat} {bf : ab_B} : decode (ab_code (zx σ n0 bf).1 8137) 66 = .ok (.iconst 0, 1) := zd zm_8137 (by decide +kernel)
theorem d_8137_67 {σ : Nat → Nat} {n0 : Nat} {bf : ab_B} : decode (ab_code (zx σ n0 bf).1 8137) 67 = .ok (.invokevirtual 649, 3) := zd zm_8137 (by decide +kernel)
theorem d_8137_70 {σ : Nat → Nat} {n0 : Nat} {bf : ab_B} : decode (ab_code (zx σ n0 bf).1 8137) 70 = .ok (.aload_n 0, 1) := zd zm_8137 (by decide +kernel)
theorem d_8137_71 {σ : Nat → Nat} {n0 : Nat} {bf : ab_B} : decode (ab_code (zx σ n0 bf).1 8137) 71 = .ok (.iconst 2, 1) := zd zm_8137 (by decide +kernel)
theorem d_8137_72 {σ : Nat → Nat} {n0 : Nat} {bf : ab_B} : decode (ab_code (zx σ n0 bf).1 8137) 72 = .ok (.iconst 0, 1) := zd zm_8137 (by decide +kernel)
theorem d_8137_73 {σ : Nat → Nat} {n0 : Nat} {bf : ab_B} : decode (ab_code (zx σ n0 bf).1 8137) 73 = .ok (.iconst 0, 1) := zd zm_8137 (by decide +kernel)
theorem d_8137_74 {σ : Nat → Nat} {n0 : Nat} {bf : ab_B} : decode (ab_code (zx σ n0 bf).1 8137) 74 = .ok (.iconst 0, 1) := zd zm_8137 (by decide +kernel)
theorem d_8137_75 {σ : Nat → Nat} {n0 : Nat} {bf : ab_B} : decode (ab_code (zx σ n0 bf).1 8137) 75 = .ok (.invokevirtual 649, 3) := zd zm_8137 (by decide +kernel)
theorem d_8137_78 {σ : Nat → Nat} {n0 : Nat} {bf : ab_B} : decode (ab_code (zx σ n0 bf).1 8137) 78 = .ok (.aload_n 0, 1) := zd zm_8137 (by decide +kernel)
theorem d_8137_79 {σ : Nat → Nat} {n0 : Nat} {bf : ab_B} : decode (ab_code (zx σ n0 bf).1 8137) 79 = .ok (.invokevirtual 538, 3) := zd zm_8137 (by decide +kernel)
theorem d_8137_82 {σ : Nat → Nat} {n0 : Nat} {bf : ab_B} : decode (ab_code (zx σ n0 bf).1 8137) 82 = .ok (.return_, 1) := zd zm_8137 (by decide +kernel)
theorem d_8137_83 {σ : Nat → Nat} {n0 : Nat} {bf : ab_B} : decode (ab_code (zx σ n0 bf).1 8137) 83 = .ok (.iload_n 3, 1) := zd zm_8137 (by decide +kernel)
theorem d_8137_84 {σ : Nat → Nat} {n0 : Nat} {bf : ab_B} : decode (ab_code (zx σ n0 bf).1 8137) 84 = .ok (.ifCond .eq 13, 3) := zd zm_8137 (by decide +kernel)
theorem d_8137_87 {σ : Nat → Nat} {n0 : Nat} {bf : ab_B} : decode (ab_code (zx σ n0 bf).1 8137) 87 = .ok (.aload_n 0, 1) := zd zm_8137 (by decide +kernel)
theorem d_8137_88 {σ : Nat → Nat} {n0 : Nat} {bf : ab_B} : decode (ab_code (zx σ n0 bf).1 8137) 88 = .ok (.getfield 293, 3) := zd zm_8137 (by decide +kernel)
theorem d_8137_91 {σ : Nat → Nat} {n0 : Nat} {bf : ab_B} : decode (ab_code (zx σ n0 bf).1 8137) 91 = .ok (.iload_n 2, 1) := zd zm_8137 (by decide +kernel)
theorem d_8137_92 {σ : Nat → Nat} {n0 : Nat} {bf : ab_B} : decode (ab_code (zx σ n0 bf).1 8137) 92 = .ok (.iaload, 1) := zd zm_8137 (by decide +kernel)
theorem d_8137_93 {σ : Nat → Nat} {n0 : Nat} {bf : ab_B} : decode (ab_code (zx σ n0 bf).1 8137) 93 = .ok (.i2l, 1) := zd zm_8137 (by decide +kernel)
theorem d_8137_94 {σ : Nat → Nat} {n0 : Nat} {bf : ab_B} : decode (ab_code (zx σ n0 bf).1 8137) 94 = .ok (.goto 5, 3) := zd zm_8137 (by decide +kernel)
theorem d_8137_97 {σ : Nat → Nat} {n0 : Nat} {bf : ab_B} : decode (ab_code (zx σ n0 bf).1 8137) 97 = .ok (.lload 5, 2) := zd zm_8137 (by decide +kernel)
theorem d_8137_99 {σ : Nat → Nat} {n0 : Nat} {bf : ab_B} : decode (ab_code (zx σ n0 bf).1 8137) 99 = .ok (.lstore 7, 2) := zd zm_8137 (by decide +kernel)
theorem d_8137_101 {σ : Nat → Nat} {n0 : Nat} {bf : ab_B} : decode (ab_code (zx σ n0 bf).1 8137) 101 = .ok (.aload_n 0, 1) := zd zm_8137 (by decide +kernel)
theorem d_8137_102 {σ : Nat → Nat} {n0 : Nat} {bf : ab_B} : decode (ab_code (zx σ n0 bf).1 8137) 102 = .ok (.getfield 909, 3) := zd zm_8137 (by decide +kernel)
theorem d_8137_105 {σ : Nat → Nat} {n0 : Nat} {bf : ab_B} : decode (ab_code (zx σ n0 bf).1 8137) 105 = .ok (.ifCond .ne 24, 3) := zd zm_8137 (by decide +kernel)
theorem d_8137_108 {σ : Nat → Nat} {n0 : Nat} {bf : ab_B} : decode (ab_code (zx σ n0 bf).1 8137) 108 = .ok (.iload_n 3, 1) := zd zm_8137 (by decide +kernel)
theorem d_8137_109 {σ : Nat → Nat} {n0 : Nat} {bf : ab_B} : decode (ab_code (zx σ n0 bf).1 8137) 109 = .ok (.ifCond .eq 12, 3) := zd zm_8137 (by decide +kernel)
theorem d_8137_112 {σ : Nat → Nat} {n0 : Nat} {bf : ab_B} : decode (ab_code (zx σ n0 bf).1 8137) 112 = .ok (.aload_n 0, 1) := zd zm_8137 (by decide +kernel)
theorem d_8137_113 {σ : Nat → Nat} {n0 : Nat} {bf : ab_B} : decode (ab_code (zx σ n0 bf).1 8137) 113 = .ok (.getfield 296, 3) := zd zm_8137 (by decide +kernel)
theorem d_8137_116 {σ : Nat → Nat} {n0 : Nat} {bf : ab_B} : decode (ab_code (zx σ n0 bf).1 8137) 116 = .ok (.iload_n 2, 1) := zd zm_8137 (by decide +kernel)
theorem d_8137_117 {σ : Nat → Nat} {n0 : Nat} {bf : ab_B} : decode (ab_code (zx σ n0 bf).1 8137) 117 = .ok (.baload, 1) := zd zm_8137 (by decide +kernel)
theorem d_8137_118 {σ : Nat → Nat} {n0 : Nat} {bf : ab_B} : decode (ab_code (zx σ n0 bf).1 8137) 118 = .ok (.ifCond .ne 11, 3) := zd zm_8137 (by decide +kernel)
theorem d_8137_121 {σ : Nat → Nat} {n0 : Nat} {bf : ab_B} : decode (ab_code (zx σ n0 bf).1 8137) 121 = .ok (.lload 7, 2) := zd zm_8137 (by decide +kernel)
theorem d_8137_123 {σ : Nat → Nat} {n0 : Nat} {bf : ab_B} : decode (ab_code (zx σ n0 bf).1 8137) 123 = .ok (.lload 5, 2) := zd zm_8137 (by decide +kernel)
theorem d_8137_125 {σ : Nat → Nat} {n0 : Nat} {bf : ab_B} : decode (ab_code (zx σ n0 bf).1 8137) 125 = .ok (.lcmp, 1) := zd zm_8137 (by decide +kernel)
theorem d_8137_126 {σ : Nat → Nat} {n0 : Nat} {bf : ab_B} : decode (ab_code (zx σ n0 bf).1 8137) 126 = .ok (.ifCond .le 7, 3) := zd zm_8137 (by decide +kernel)
theorem d_8137_129 {σ : Nat → Nat} {n0 : Nat} {bf : ab_B} : decode (ab_code (zx σ n0 bf).1 8137) 129 = .ok (.iconst 1, 1) := zd zm_8137 (by decide +kernel)
theorem d_8137_130 {σ : Nat → Nat} {n0 : Nat} {bf : ab_B} : decode (ab_code (zx σ n0 bf).1 8137) 130 = .ok (.goto 4, 3) := zd zm_8137 (by decide +kernel)
theorem d_8137_133 {σ : Nat → Nat} {n0 : Nat} {bf : ab_B} : decode (ab_code (zx σ n0 bf).1 8137) 133 = .ok (.iconst 0, 1) := zd zm_8137 (by decide +kernel)
theorem d_8137_134 {σ : Nat → Nat} {n0 : Nat} {bf : ab_B} : decode (ab_code (zx σ n0 bf).1 8137) 134 = .ok (.istore 9, 2) := zd zm_8137 (by decide +kernel)
theorem d_8137_136 {σ : Nat → Nat} {n0 : Nat} {bf : ab_B} : decode (ab_code (zx σ n0 bf).1 8137) 136 = .ok (.aload_n 0, 1) := zd zm_8137 (by decide +kernel)
theorem d_8137_137 {σ : Nat → Nat} {n0 : Nat} {bf : ab_B} : decode (ab_code (zx σ n0 bf).1 8137) 137 = .ok (.getfield 172, 3) := zd zm_8137 (by decide +kernel)
theorem d_8137_140 {σ : Nat → Nat} {n0 : Nat} {bf : ab_B} : decode (ab_code (zx σ n0 bf).1 8137) 140 = .ok (.iload 4, 2) := zd zm_8137 (by decide +kernel)
theorem d_8137_142 {σ : Nat → Nat} {n0 : Nat} {bf : ab_B} : decode (ab_code (zx σ n0 bf).1 8137) 142 = .ok (.iaload, 1) := zd zm_8137 (by decide +kernel)
theorem d_8137_143 {σ : Nat → Nat} {n0 : Nat} {bf : ab_B} : decode (ab_code (zx σ n0 bf).1 8137) 143 = .ok (.istore 10, 2) := zd zm_8137 (by decide +kernel)
theorem d_8137_145 {σ : Nat → Nat} {n0 : Nat} {bf : ab_B} : decode (ab_code (zx σ n0 bf).1 8137) 145 = .ok (.iload 10, 2) := zd zm_8137 (by decide +kernel)
theorem d_8137_147 {σ : Nat → Nat} {n0 : Nat} {bf : ab_B} : decode (ab_code (zx σ n0 bf).1 8137) 147 = .ok (.ifCond .le 45, 3) := zd zm_8137 (by decide +kernel)
theorem d_8137_150 {σ : Nat → Nat} {n0 : Nat} {bf : ab_B} : decode (ab_code (zx σ n0 bf).1 8137) 150 = .ok (.iload 9, 2) := zd zm_8137 (by decide +kernel)
theorem d_8137_152 {σ : Nat → Nat} {n0 : Nat} {bf : ab_B} : decode (ab_code (zx σ n0 bf).1 8137) 152 = .ok (.ifCond .ne 21, 3) := zd zm_8137 (by decide +kernel)
theorem d_8137_155 {σ : Nat → Nat} {n0 : Nat} {bf : ab_B} : decode (ab_code (zx σ n0 bf).1 8137) 155 = .ok (.aload_n 0, 1) := zd zm_8137 (by decide +kernel)
theorem d_8137_156 {σ : Nat → Nat} {n0 : Nat} {bf : ab_B} : decode (ab_code (zx σ n0 bf).1 8137) 156 = .ok (.aload_n 0, 1) := zd zm_8137 (by decide +kernel)
theorem d_8137_157 {σ : Nat → Nat} {n0 : Nat} {bf : ab_B} : decode (ab_code (zx σ n0 bf).1 8137) 157 = .ok (.getfield 160, 3) := zd zm_8137 (by decide +kernel)
theorem d_8137_160 {σ : Nat → Nat} {n0 : Nat} {bf : ab_B} : decode (ab_code (zx σ n0 bf).1 8137) 160 = .ok (.iload 10, 2) := zd zm_8137 (by decide +kernel)
theorem d_8137_162 {σ : Nat → Nat} {n0 : Nat} {bf : ab_B} : decode (ab_code (zx σ n0 bf).1 8137) 162 = .ok (.iaload, 1) := zd zm_8137 (by decide +kernel)
theorem d_8137_163 {σ : Nat → Nat} {n0 : Nat} {bf : ab_B} : decode (ab_code (zx σ n0 bf).1 8137) 163 = .ok (.lload 7, 2) := zd zm_8137 (by decide +kernel)
theorem d_8137_165 {σ : Nat → Nat} {n0 : Nat} {bf : ab_B} : decode (ab_code (zx σ n0 bf).1 8137) 165 = .ok (.lload 5, 2) := zd zm_8137 (by decide +kernel)
theorem d_8137_167 {σ : Nat → Nat} {n0 : Nat} {bf : ab_B} : decode (ab_code (zx σ n0 bf).1 8137) 167 = .ok (.invokevirtual 915, 3) := zd zm_8137 (by decide +kernel)
theorem d_8137_170 {σ : Nat → Nat} {n0 : Nat} {bf : ab_B} : decode (ab_code (zx σ n0 bf).1 8137) 170 = .ok (.ifCond .eq 7, 3) := zd zm_8137 (by decide +kernel)
theorem d_8137_173 {σ : Nat → Nat} {n0 : Nat} {bf : ab_B} : decode (ab_code (zx σ n0 bf).1 8137) 173 = .ok (.iconst 1, 1) := zd zm_8137 (by decide +kernel)
theorem d_8137_174 {σ : Nat → Nat} {n0 : Nat} {bf : ab_B} : decode (ab_code (zx σ n0 bf).1 8137) 174 = .ok (.goto 4, 3) := zd zm_8137 (by decide +kernel)
theorem d_8137_177 {σ : Nat → Nat} {n0 : Nat} {bf : ab_B} : decode (ab_code (zx σ n0 bf).1 8137) 177 = .ok (.iconst 0, 1) := zd zm_8137 (by decide +kernel)
theorem d_8137_178 {σ : Nat → Nat} {n0 : Nat} {bf : ab_B} : decode (ab_code (zx σ n0 bf).1 8137) 178 = .ok (.istore 9, 2) := zd zm_8137 (by decide +kernel)
theorem d_8137_180 {σ : Nat → Nat} {n0 : Nat} {bf : ab_B} : decode (ab_code (zx σ n0 bf).1 8137) 180 = .ok (.aload_n 0, 1) := zd zm_8137 (by decide +kernel)
theorem d_8137_181 {σ : Nat → Nat} {n0 : Nat} {bf : ab_B} : decode (ab_code (zx σ n0 bf).1 8137) 181 = .ok (.getfield 157, 3) := zd zm_8137 (by decide +kernel)
theorem d_8137_184 {σ : Nat → Nat} {n0 : Nat} {bf : ab_B} : decode (ab_code (zx σ n0 bf).1 8137) 184 = .ok (.iload 10, 2) := zd zm_8137 (by decide +kernel)
theorem d_8137_186 {σ : Nat → Nat} {n0 : Nat} {bf : ab_B} : decode (ab_code (zx σ n0 bf).1 8137) 186 = .ok (.iaload, 1) := zd zm_8137 (by decide +kernel)
theorem d_8137_187 {σ : Nat → Nat} {n0 : Nat} {bf : ab_B} : decode (ab_code (zx σ n0 bf).1 8137) 187 = .ok (.istore 10, 2) := zd zm_8137 (by decide +kernel)
theorem d_8137_189 {σ : Nat → Nat} {n0 : Nat} {bf : ab_B} : decode (ab_code (zx σ n0 bf).1 8137) 189 = .ok (.goto (-44), 3) := zd zm_8137 (by decide +kernel)
theorem d_8137_192 {σ : Nat → Nat} {n0 : Nat} {bf : ab_B} : decode (ab_code (zx σ n0 bf).1 8137) 192 = .ok (.iload 9, 2) := zd zm_8137 (by decide +kernel)
theorem d_8137_194 {σ : Nat → Nat} {n0 : Nat} {bf : ab_B} : decode (ab_code (zx σ n0 bf).1 8137) 194 = .ok (.ifCond .eq 10, 3) := zd zm_8137 (by decide +kernel)
theorem d_8137_197 {σ : Nat → Nat} {n0 : Nat} {bf : ab_B} : decode (ab_code (zx σ n0 bf).1 8137) 197 = .ok (.aload_n 0, 1) := zd zm_8137 (by decide +kernel)
theorem d_8137_198 {σ : Nat → Nat} {n0 : Nat} {bf : ab_B} : decode (ab_code (zx σ n0 bf).1 8137) 198 = .ok (.bipush 9, 2) := zd zm_8137 (by decide +kernel)
theorem d_8137_200 {σ : Nat → Nat} {n0 : Nat} {bf : ab_B} : decode (ab_code (zx σ n0 bf).1 8137) 200 = .ok (.invokevirtual 541, 3) := zd zm_8137 (by decide +kernel)
theorem d_8137_203 {σ : Nat → Nat} {n0 : Nat} {bf : ab_B} : decode (ab_code (zx σ n0 bf).1 8137) 203 = .ok (.return_, 1) := zd zm_8137 (by decide +kernel)
theorem d_8137_204 {σ : Nat → Nat} {n0 : Nat} {bf : ab_B} : decode (ab_code (zx σ n0 bf).1 8137) 204 = .ok (.aload_n 0, 1) := zd zm_8137 (by decide +kernel)
theorem d_8137_205 {σ : Nat → Nat} {n0 : Nat} {bf : ab_B} : decode (ab_code (zx σ n0 bf).1 8137) 205 = .ok (.dup, 1) := zd zm_8137 (by decide +kernel)
theorem d_8137_206 {σ : Nat → Nat} {n0 : Nat} {bf : ab_B} : decode (ab_code (zx σ n0 bf).1 8137) 206 = .ok (.getfield 593, 3) := zd zm_8137 (by decide +kernel)
theorem d_8137_209 {σ : Nat → Nat} {n0 : Nat} {bf : ab_B} : decode (ab_code (zx σ n0 bf).1 8137) 209 = .ok (.iconst 1, 1) := zd zm_8137 (by decide +kernel)
theorem d_8137_210 {σ : Nat → Nat} {n0 : Nat} {bf : ab_B} : decode (ab_code (zx σ n0 bf).1 8137) 210 = .ok (.iadd, 1) := zd zm_8137 (by decide +kernel)
theorem d_8137_211 {σ : Nat → Nat} {n0 : Nat} {bf : ab_B} : decode (ab_code (zx σ n0 bf).1 8137) 211 = .ok (.putfield 593, 3) := zd zm_8137 (by decide +kernel)
theorem d_8137_214 {σ : Nat → Nat} {n0 : Nat} {bf : ab_B} : decode (ab_code (zx σ n0 bf).1 8137) 214 = .ok (.aload_n 0, 1) := zd zm_8137 (by decide +kernel)
theorem d_8137_215 {σ : Nat → Nat} {n0 : Nat} {bf : ab_B} : decode (ab_code (zx σ n0 bf).1 8137) 215 = .ok (.getfield 163, 3) := zd zm_8137 (by decide +kernel)
theorem d_8137_218 {σ : Nat → Nat} {n0 : Nat} {bf : ab_B} : decode (ab_code (zx σ n0 bf).1 8137) 218 = .ok (.aload_n 0, 1) := zd zm_8137 (by decide +kernel)
theorem d_8137_219 {σ : Nat → Nat} {n0 : Nat} {bf : ab_B} : decode (ab_code (zx σ n0 bf).1 8137) 219 = .ok (.getfield 593, 3) := zd zm_8137 (by decide +kernel)
theorem d_8137_222 {σ : Nat → Nat} {n0 : Nat} {bf : ab_B} : decode (ab_code (zx σ n0 bf).1 8137) 222 = .ok (.lload 7, 2) := zd zm_8137 (by decide +kernel)
theorem d_8137_224 {σ : Nat → Nat} {n0 : Nat} {bf : ab_B} : decode (ab_code (zx σ n0 bf).1 8137) 224 = .ok (.l2i, 1) := zd zm_8137 (by decide +kernel)
theorem d_8137_225 {σ : Nat → Nat} {n0 : Nat} {bf : ab_B} : decode (ab_code (zx σ n0 bf).1 8137) 225 = .ok (.iastore, 1) := zd zm_8137 (by decide +kernel)
theorem d_8137_226 {σ : Nat → Nat} {n0 : Nat} {bf : ab_B} : decode (ab_code (zx σ n0 bf).1 8137) 226 = .ok (.aload_n 0, 1) := zd zm_8137 (by decide +kernel)
theorem d_8137_227 {σ : Nat → Nat} {n0 : Nat} {bf : ab_B} : decode (ab_code (zx σ n0 bf).1 8137) 227 = .ok (.getfield 166, 3) := zd zm_8137 (by decide +kernel)
theorem d_8137_230 {σ : Nat → Nat} {n0 : Nat} {bf : ab_B} : decode (ab_code (zx σ n0 bf).1 8137) 230 = .ok (.aload_n 0, 1) := zd zm_8137 (by decide +kernel)
theorem d_8137_231 {σ : Nat → Nat} {n0 : Nat} {bf : ab_B} : decode (ab_code (zx σ n0 bf).1 8137) 231 = .ok (.getfield 593, 3) := zd zm_8137 (by decide +kernel)
theorem d_8137_234 {σ : Nat → Nat} {n0 : Nat} {bf : ab_B} : decode (ab_code (zx σ n0 bf).1 8137) 234 = .ok (.lload 5, 2) := zd zm_8137 (by decide +kernel)
theorem d_8137_236 {σ : Nat → Nat} {n0 : Nat} {bf : ab_B} : decode (ab_code (zx σ n0 bf).1 8137) 236 = .ok (.l2i, 1) := zd zm_8137 (by decide +kernel)
theorem d_8137_237 {σ : Nat → Nat} {n0 : Nat} {bf : ab_B} : decode (ab_code (zx σ n0 bf).1 8137) 237 = .ok (.iastore, 1) := zd zm_8137 (by decide +kernel)
theorem d_8137_238 {σ : Nat → Nat} {n0 : Nat} {bf : ab_B} : decode (ab_code (zx σ n0 bf).1 8137) 238 = .ok (.aload_n 0, 1) := zd zm_8137 (by decide +kernel)
theorem d_8137_239 {σ : Nat → Nat} {n0 : Nat} {bf : ab_B} : decode (ab_code (zx σ n0 bf).1 8137) 239 = .ok (.getfield 169, 3) := zd zm_8137 (by decide +kernel)
theorem d_8137_242 {σ : Nat → Nat} {n0 : Nat} {bf : ab_B} : decode (ab_code (zx σ n0 bf).1 8137) 242 = .ok (.aload_n 0, 1) := zd zm_8137 (by decide +kernel)
theorem d_8137_243 {σ : Nat → Nat} {n0 : Nat} {bf : ab_B} : decode (ab_code (zx σ n0 bf).1 8137) 243 = .ok (.getfield 593, 3) := zd zm_8137 (by decide +kernel)
theorem d_8137_246 {σ : Nat → Nat} {n0 : Nat} {bf : ab_B} : decode (ab_code (zx σ n0 bf).1 8137) 246 = .ok (.aload_n 0, 1) := zd zm_8137 (by decide +kernel)
theorem d_8137_247 {σ : Nat → Nat} {n0 : Nat} {bf : ab_B} : decode (ab_code (zx σ n0 bf).1 8137) 247 = .ok (.getfield 160, 3) := zd zm_8137 (by decide +kernel)
theorem d_8137_250 {σ : Nat → Nat} {n0 : Nat} {bf : ab_B} : decode (ab_code (zx σ n0 bf).1 8137) 250 = .ok (.iload_n 2, 1) := zd zm_8137 (by decide +kernel)
theorem d_8137_251 {σ : Nat → Nat} {n0 : Nat} {bf : ab_B} : decode (ab_code (zx σ n0 bf).1 8137) 251 = .ok (.iaload, 1) := zd zm_8137 (by decide +kernel)
theorem d_8137_252 {σ : Nat → Nat} {n0 : Nat} {bf : ab_B} : decode (ab_code (zx σ n0 bf).1 8137) 252 = .ok (.iastore, 1) := zd zm_8137 (by decide +kernel)
theorem d_8137_253 {σ : Nat → Nat} {n0 : Nat} {bf : ab_B} : decode (ab_code (zx σ n0 bf).1 8137) 253 = .ok (.aload_n 0, 1) := zd zm_8137 (by decide +kernel)
theorem d_8137_254 {σ : Nat → Nat} {n0 : Nat} {bf : ab_B} : decode (ab_code (zx σ n0 bf).1 8137) 254 = .ok (.getfield 160, 3) := zd zm_8137 (by decide +kernel)
theorem d_8137_257 {σ : Nat → Nat} {n0 : Nat} {bf : ab_B} : decode (ab_code (zx σ n0 bf).1 8137) 257 = .ok (.iload_n 2, 1) := zd zm_8137 (by decide +kernel)
theorem d_8137_258 {σ : Nat → Nat} {n0 : Nat} {bf : ab_B} : decode (ab_code (zx σ n0 bf).1 8137) 258 = .ok (.aload_n 0, 1) := zd zm_8137 (by decide +kernel)
theorem d_8137_259 {σ : Nat → Nat} {n0 : Nat} {bf : ab_B} : decode (ab_code (zx σ n0 bf).1 8137) 259 = .ok (.getfield 593, 3) := zd zm_8137 (by decide +kernel)
theorem d_8137_262 {σ : Nat → Nat} {n0 : Nat} {bf : ab_B} : decode (ab_code (zx σ n0 bf).1 8137) 262 = .ok (.iastore, 1) := zd zm_8137 (by decide +kernel)
theorem d_8137_263 {σ : Nat → Nat} {n0 : Nat} {bf : ab_B} : decode (ab_code (zx σ n0 bf).1 8137) 263 = .ok (.aload_n 0, 1) := zd zm_8137 (by decide +kernel)
theorem d_8137_264 {σ : Nat → Nat} {n0 : Nat} {bf : ab_B} : decode (ab_code (zx σ n0 bf).1 8137) 264 = .ok (.bipush 12, 2) := zd zm_8137 (by decide +kernel)
theorem d_8137_266 {σ : Nat → Nat} {n0 : Nat} {bf : ab_B} : decode (ab_code (zx σ n0 bf).1 8137) 266 = .ok (.invokevirtual 535, 3) := zd zm_8137 (by decide +kernel)
theorem d_8137_269 {σ : Nat → Nat} {n0 : Nat} {bf : ab_B} : decode (ab_code (zx σ n0 bf).1 8137) 269 = .ok (.ifCond .eq 27, 3) := zd zm_8137 (by decide +kernel)
theorem d_8137_272 {σ : Nat → Nat} {n0 : Nat} {bf : ab_B} : decode (ab_code (zx σ n0 bf).1 8137) 272 = .ok (.aload_n 0, 1) := zd zm_8137 (by decide +kernel)
theorem d_8137_273 {σ : Nat → Nat} {n0 : Nat} {bf : ab_B} : decode (ab_code (zx σ n0 bf).1 8137) 273 = .ok (.invokevirtual 538, 3) := zd zm_8137 (by decide +kernel)
theorem d_8137_276 {σ : Nat → Nat} {n0 : Nat} {bf : ab_B} : decode (ab_code (zx σ n0 bf).1 8137) 276 = .ok (.aload_n 0, 1) := zd zm_8137 (by decide +kernel)
theorem d_8137_277 {σ : Nat → Nat} {n0 : Nat} {bf : ab_B} : decode (ab_code (zx σ n0 bf).1 8137) 277 = .ok (.bipush 42, 2) := zd zm_8137 (by decide +kernel)
theorem d_8137_279 {σ : Nat → Nat} {n0 : Nat} {bf : ab_B} : decode (ab_code (zx σ n0 bf).1 8137) 279 = .ok (.iload_n 1, 1) := zd zm_8137 (by decide +kernel)
theorem d_8137_280 {σ : Nat → Nat} {n0 : Nat} {bf : ab_B} : decode (ab_code (zx σ n0 bf).1 8137) 280 = .ok (.iload_n 2, 1) := zd zm_8137 (by decide +kernel)
theorem d_8137_281 {σ : Nat → Nat} {n0 : Nat} {bf : ab_B} : decode (ab_code (zx σ n0 bf).1 8137) 281 = .ok (.iconst 0, 1) := zd zm_8137 (by decide +kernel)
theorem d_8137_282 {σ : Nat → Nat} {n0 : Nat} {bf : ab_B} : decode (ab_code (zx σ n0 bf).1 8137) 282 = .ok (.invokevirtual 649, 3) := zd zm_8137 (by decide +kernel)
theorem d_8137_285 {σ : Nat → Nat} {n0 : Nat} {bf : ab_B} : decode (ab_code (zx σ n0 bf).1 8137) 285 = .ok (.aload_n 0, 1) := zd zm_8137 (by decide +kernel)
theorem d_8137_286 {σ : Nat → Nat} {n0 : Nat} {bf : ab_B} : decode (ab_code (zx σ n0 bf).1 8137) 286 = .ok (.iconst 2, 1) := zd zm_8137 (by decide +kernel)
theorem d_8137_287 {σ : Nat → Nat} {n0 : Nat} {bf : ab_B} : decode (ab_code (zx σ n0 bf).1 8137) 287 = .ok (.iconst 0, 1) := zd zm_8137 (by decide +kernel)
theorem d_8137_288 {σ : Nat → Nat} {n0 : Nat} {bf : ab_B} : decode (ab_code (zx σ n0 bf).1 8137) 288 = .ok (.iconst 0, 1) := zd zm_8137 (by decide +kernel)
theorem d_8137_289 {σ : Nat → Nat} {n0 : Nat} {bf : ab_B} : decode (ab_code (zx σ n0 bf).1 8137) 289 = .ok (.iconst 0, 1) := zd zm_8137 (by decide +kernel)
theorem d_8137_290 {σ : Nat → Nat} {n0 : Nat} {bf : ab_B} : decode (ab_code (zx σ n0 bf).1 8137) 290 = .ok (.invokevirtual 649, 3) := zd zm_8137 (by decide +kernel)
theorem d_8137_293 {σ : Nat → Nat} {n0 : Nat} {bf : ab_B} : decode (ab_code (zx σ n0 bf).1 8137) 293 = .ok (.goto 24, 3) := zd zm_8137 (by decide +kernel)
theorem d_8137_296 {σ : Nat → Nat} {n0 : Nat} {bf : ab_B} : decode (ab_code (zx σ n0 bf).1 8137) 296 = .ok (.aload_n 0, 1) := zd zm_8137 (by decide +kernel)
theorem d_8137_297 {σ : Nat → Nat} {n0 : Nat} {bf : ab_B} : decode (ab_code (zx σ n0 bf).1 8137) 297 = .ok (.bipush 14, 2) := zd zm_8137 (by decide +kernel)
theorem d_8137_299 {σ : Nat → Nat} {n0 : Nat} {bf : ab_B} : decode (ab_code (zx σ n0 bf).1 8137) 299 = .ok (.invokevirtual 746, 3) := zd zm_8137 (by decide +kernel)
theorem d_8137_302 {σ : Nat → Nat} {n0 : Nat} {bf : ab_B} : decode (ab_code (zx σ n0 bf).1 8137) 302 = .ok (.aload_n 0, 1) := zd zm_8137 (by decide +kernel)
theorem d_8137_303 {σ : Nat → Nat} {n0 : Nat} {bf : ab_B} : decode (ab_code (zx σ n0 bf).1 8137) 303 = .ok (.bipush 8, 2) := zd zm_8137 (by decide +kernel)
theorem d_8137_305 {σ : Nat → Nat} {n0 : Nat} {bf : ab_B} : decode (ab_code (zx σ n0 bf).1 8137) 305 = .ok (.invokevirtual 746, 3) := zd zm_8137 (by decide +kernel)
theorem d_8137_308 {σ : Nat → Nat} {n0 : Nat} {bf : ab_B} : decode (ab_code (zx σ n0 bf).1 8137) 308 = .ok (.aload_n 0, 1) := zd zm_8137 (by decide +kernel)
theorem d_8137_309 {σ : Nat → Nat} {n0 : Nat} {bf : ab_B} : decode (ab_code (zx σ n0 bf).1 8137) 309 = .ok (.bipush 39, 2) := zd zm_8137 (by decide +kernel)
theorem d_8137_311 {σ : Nat → Nat} {n0 : Nat} {bf : ab_B} : decode (ab_code (zx σ n0 bf).1 8137) 311 = .ok (.iload_n 1, 1) := zd zm_8137 (by decide +kernel)
theorem d_8137_312 {σ : Nat → Nat} {n0 : Nat} {bf : ab_B} : decode (ab_code (zx σ n0 bf).1 8137) 312 = .ok (.iload_n 2, 1) := zd zm_8137 (by decide +kernel)
theorem d_8137_313 {σ : Nat → Nat} {n0 : Nat} {bf : ab_B} : decode (ab_code (zx σ n0 bf).1 8137) 313 = .ok (.iconst 0, 1) := zd zm_8137 (by decide +kernel)
theorem d_8137_314 {σ : Nat → Nat} {n0 : Nat} {bf : ab_B} : decode (ab_code (zx σ n0 bf).1 8137) 314 = .ok (.invokevirtual 649, 3) := zd zm_8137 (by decide +kernel)
theorem d_8137_317 {σ : Nat → Nat} {n0 : Nat} {bf : ab_B} : decode (ab_code (zx σ n0 bf).1 8137) 317 = .ok (.return_, 1) := zd zm_8137 (by decide +kernel)
def w_X9_label_134 (X : zs_X) (d : Nat) (p0 : Nat) (p1 : Int32) (p2 : Int32) (p4 : Int32) (p5 : Int64) (p7 : Int64) (q0 : Int32) (S : zs_T) (Q : zs_Q) : Prop :=
  (zs_K S p0 = some (.inl 8) ∧ ∃ b2, (zs_R S 8078 p0) = some b2 ∧ zs_A S b2 0 p4 ∧ zs_U X d 8137 145 [(0, .ref p0), (1, .int p1), (2, .int p2), (5, .long p5), (7, .long p7), (9, .int q0), (10, .int (zs_i S b2 p4.toNatClampNeg))] [] S Q)
theorem u_X9_label_134 {σ : Nat → Nat} {n0 : Nat} {bf : ab_B} {d : Nat} {p0 : Nat} {p1 : Int32} {p2 : Int32} {p4 : Int32} {p5 : Int64} {p7 : Int64} {q0 : Int32} {S : zs_T} {Q : zs_Q} (hB : zt_B bf) (h : w_X9_label_134 (zx σ n0 bf) d p0 p1 p2 p4 p5 p7 q0 S Q) : zs_U (zx σ n0 bf) d 8137 134 [(0, .ref p0), (1, .int p1), (2, .int p2), (4, .int p4), (5, .long p5), (7, .long p7)] [.int q0] S Q := by
  unfold w_X9_label_134 at h
  refine zu_istore d_8137_134 (zs_lt zq_8137 rfl) ?_
  refine zu_aload_n d_8137_136 rfl (zs_ra _) ?_
  obtain ⟨k1, h⟩ := h
  refine zg_8_172 rfl d_8137_137 k1 ?_
  refine zu_iload d_8137_140 rfl ?_
  obtain ⟨b2, e3, h⟩ := h
  refine zs_stk1 (zs_rfe e3) ?_
  obtain ⟨k4, h⟩ := h
  refine zu_iald (k := 0) d_8137_142 rfl rfl k4 ?_
  refine zu_istore d_8137_143 (zs_lt zq_8137 rfl) ?_
  exact h.weak ⟨rfl, rfl, rfl, rfl, rfl, rfl, rfl, trivial⟩
def w_X9_label_129 (X : zs_X) (d : Nat) (p0 : Nat) (p1 : Int32) (p2 : Int32) (p4 : Int32) (p5 : Int64) (p7 : Int64) (S : zs_T) (Q : zs_Q) : Prop :=
  (w_X9_label_134 X d p0 p1 p2 p4 p5 p7 (1 : Int32) S Q)
theorem u_X9_label_129 {σ : Nat → Nat} {n0 : Nat} {bf : ab_B} {d : Nat} {p0 : Nat} {p1 : Int32} {p2 : Int32} {p4 : Int32} {p5 : Int64} {p7 : Int64} {S : zs_T} {Q : zs_Q} (hB : zt_B bf) (h : w_X9_label_129 (zx σ n0 bf) d p0 p1 p2 p4 p5 p7 S Q) : zs_U (zx σ n0 bf) d 8137 129 [(0, .ref p0), (1, .int p1), (2, .int p2), (4, .int p4), (5, .long p5), (7, .long p7)] [] S Q := by
  unfold w_X9_label_129 at h
  refine zu_iconst d_8137_129 zi_1 ?_
  refine zu_goto (t := 134) d_8137_130 rfl ?_
  exact (u_X9_label_134 hB h).weak ⟨rfl, rfl, rfl, rfl, rfl, rfl, trivial⟩
def w_X9_label_121 (X : zs_X) (d : Nat) (p0 : Nat) (p1 : Int32) (p2 : Int32) (p4 : Int32) (p5 : Int64) (p7 : Int64) (S : zs_T) (Q : zs_Q) : Prop :=
  (((p7 ≤ p5 → (w_X9_label_134 X d p0 p1 p2 p4 p5 p7 (0 : Int32) S Q)) ∧ (¬ (p7 ≤ p5) → w_X9_label_129 X d p0 p1 p2 p4 p5 p7 S Q)))
theorem u_X9_label_121 {σ : Nat → Nat} {n0 : Nat} {bf : ab_B} {d : Nat} {p0 : Nat} {p1 : Int32} {p2 : Int32} {p4 : Int32} {p5 : Int64} {p7 : Int64} {S : zs_T} {Q : zs_Q} (hB : zt_B bf) (h : w_X9_label_121 (zx σ n0 bf) d p0 p1 p2 p4 p5 p7 S Q) : zs_U (zx σ n0 bf) d 8137 121 [(0, .ref p0), (1, .int p1), (2, .int p2), (4, .int p4), (5, .long p5), (7, .long p7)] [] S Q := by
  unfold w_X9_label_121 at h
  refine zu_lload d_8137_121 rfl ?_
  refine zu_lload d_8137_123 rfl ?_
  refine zu_lle (t := 133) d_8137_125 d_8137_126 rfl (fun c1 => ?_) (fun c1 => ?_)
  · have h := h.1 c1
    refine zu_iconst d_8137_133 zi_0 ?_
    exact (u_X9_label_134 hB h).weak ⟨rfl, rfl, rfl, rfl, rfl, rfl, trivial⟩
  · have h := h.2 c1
    exact (u_X9_label_129 hB h).weak ⟨rfl, rfl, rfl, rfl, rfl, rfl, trivial⟩
def w_X9_label_99 (X : zs_X) (d : Nat) (p0 : Nat) (p1 : Int32) (p2 : Int32) (p3 : Int32) (p4 : Int32) (p5 : Int64) (q0 : Int64) (S : zs_T) (Q : zs_Q) : Prop :=
  (zs_K S p0 = some (.inl 8) ∧ ((¬ (zs_I S 8138 p0) = 0 → w_X9_label_129 X d p0 p1 p2 p4 p5 q0 S Q) ∧ (¬ (¬ (zs_I S 8138 p0) = 0) → (((p3 = 0 → w_X9_label_121 X d p0 p1 p2 p4 p5 q0 S Q) ∧ (¬ (p3 = 0) → (∃ b4, (zs_R S 8140 p0) = some b4 ∧ zs_A S b4 2 p2 ∧ ((¬ (zs_i S b4 p2.toNatClampNeg) = 0 → w_X9_label_129 X d p0 p1 p2 p4 p5 q0 S Q) ∧ (¬ (¬ (zs_i S b4 p2.toNatClampNeg) = 0) → w_X9_label_121 X d p0 p1 p2 p4 p5 q0 S Q)))))))))
theorem u_X9_label_99 {σ : Nat → Nat} {n0 : Nat} {bf : ab_B} {d : Nat} {p0 : Nat} {p1 : Int32} {p2 : Int32} {p3 : Int32} {p4 : Int32} {p5 : Int64} {q0 : Int64} {S : zs_T} {Q : zs_Q} (hB : zt_B bf) (h : w_X9_label_99 (zx σ n0 bf) d p0 p1 p2 p3 p4 p5 q0 S Q) : zs_U (zx σ n0 bf) d 8137 99 [(0, .ref p0), (1, .int p1), (2, .int p2), (3, .int p3), (4, .int p4), (5, .long p5)] [.long q0] S Q := by
  unfold w_X9_label_99 at h
  refine zu_lstore d_8137_99 (zs_lt zq_8137 rfl) ?_
  refine zu_aload_n d_8137_101 rfl (zs_ra _) ?_
  obtain ⟨k1, h⟩ := h
  refine zg_8_909 rfl d_8137_102 k1 ?_
  refine zu_ifne (t := 129) d_8137_105 rfl (fun c2 => ?_) (fun c2 => ?_)
  · have h := h.1 c2
    exact (u_X9_label_129 hB h).weak ⟨rfl, rfl, rfl, rfl, rfl, rfl, trivial⟩
  · have h := h.2 c2
    refine zu_iload_n d_8137_108 rfl ?_
    refine zu_ifeq (t := 121) d_8137_109 rfl (fun c3 => ?_) (fun c3 => ?_)
    · have h := h.1 c3
      exact (u_X9_label_121 hB h).weak ⟨rfl, rfl, rfl, rfl, rfl, rfl, trivial⟩
    · have h := h.2 c3
      refine zu_aload_n d_8137_112 rfl (zs_ra _) ?_
      refine zg_8_296 rfl d_8137_113 k1 ?_
      refine zu_iload_n d_8137_116 rfl ?_
      obtain ⟨b4, e5, h⟩ := h
      refine zs_stk1 (zs_rfe e5) ?_
      obtain ⟨k6, h⟩ := h
      refine zu_bald (k := 2) d_8137_117 rfl (Or.inr rfl) k6 ?_
      refine zu_ifne (t := 129) d_8137_118 rfl (fun c7 => ?_) (fun c7 => ?_)
      · have h := h.1 c7
        exact (u_X9_label_129 hB h).weak ⟨rfl, rfl, rfl, rfl, rfl, rfl, trivial⟩
      · have h := h.2 c7
        exact (u_X9_label_121 hB h).weak ⟨rfl, rfl, rfl, rfl, rfl, rfl, trivial⟩
def w_X9_label_83 (X : zs_X) (d : Nat) (p0 : Nat) (p1 : Int32) (p2 : Int32) (p3 : Int32) (p4 : Int32) (p5 : Int64) (S : zs_T) (Q : zs_Q) : Prop :=
  (((p3 = 0 → (w_X9_label_99 X d p0 p1 p2 p3 p4 p5 p5 S Q)) ∧ (¬ (p3 = 0) → (zs_K S p0 = some (.inl 8) ∧ ∃ b3, (zs_R S 8139 p0) = some b3 ∧ zs_A S b3 0 p2 ∧ w_X9_label_99 X d p0 p1 p2 p3 p4 p5 (((zs_i S b3 p2.toNatClampNeg)).toInt64) S Q))))
theorem u_X9_label_83 {σ : Nat → Nat} {n0 : Nat} {bf : ab_B} {d : Nat} {p0 : Nat} {p1 : Int32} {p2 : Int32} {p3 : Int32} {p4 : Int32} {p5 : Int64} {S : zs_T} {Q : zs_Q} (hB : zt_B bf) (h : w_X9_label_83 (zx σ n0 bf) d p0 p1 p2 p3 p4 p5 S Q) : zs_U (zx σ n0 bf) d 8137 83 [(0, .ref p0), (1, .int p1), (2, .int p2), (3, .int p3), (4, .int p4), (5, .long p5)] [] S Q := by
  unfold w_X9_label_83 at h
  refine zu_iload_n d_8137_83 rfl ?_
  refine zu_ifeq (t := 97) d_8137_84 rfl (fun c1 => ?_) (fun c1 => ?_)
  · have h := h.1 c1
    refine zu_lload d_8137_97 rfl ?_
    exact (u_X9_label_99 hB h).weak ⟨rfl, rfl, rfl, rfl, rfl, rfl, trivial⟩
  · have h := h.2 c1
    refine zu_aload_n d_8137_87 rfl (zs_ra _) ?_
    obtain ⟨k2, h⟩ := h
    refine zg_8_293 rfl d_8137_88 k2 ?_
    refine zu_iload_n d_8137_91 rfl ?_
    obtain ⟨b3, e4, h⟩ := h
    refine zs_stk1 (zs_rfe e4) ?_
    obtain ⟨k5, h⟩ := h
    refine zu_iald (k := 0) d_8137_92 rfl rfl k5 ?_
    refine zu_stk d_8137_93 rfl rfl ?_
    refine zu_goto (t := 99) d_8137_94 rfl ?_
    exact (u_X9_label_99 hB h).weak ⟨rfl, rfl, rfl, rfl, rfl, rfl, trivial⟩
def w_X9_label_61 (X : zs_X) (d : Nat) (p0 : Nat) (p1 : Int32) (p2 : Int32) (S : zs_T) (Q : zs_Q) : Prop :=
  (zs_K S p0 = some (.inl 8) ∧ zs_C X d 8030 [.ref p0, .int (43 : Int32), .int p1, .int p2, .int (0 : Int32)] S (zs_kV (fun S2 => (zs_K S2 p0 = some (.inl 8) ∧ zs_C X d 8030 [.ref p0, .int (2 : Int32), .int (0 : Int32), .int (0 : Int32), .int (0 : Int32)] S2 (zs_kV (fun S5 => (zs_K S5 p0 = some (.inl 8) ∧ zs_C X d 8014 [.ref p0] S5 (zs_kV (fun S8 => (Q (.returned none) S8)) Q))) Q))) Q))
theorem u_X9_label_61 {σ : Nat → Nat} {n0 : Nat} {bf : ab_B} {d : Nat} {p0 : Nat} {p1 : Int32} {p2 : Int32} {S : zs_T} {Q : zs_Q} (hB : zt_B bf) (h : w_X9_label_61 (zx σ n0 bf) d p0 p1 p2 S Q) : zs_U (zx σ n0 bf) d 8137 61 [(0, .ref p0), (1, .int p1), (2, .int p2)] [] S Q := by
  unfold w_X9_label_61 at h
  refine zu_aload_n d_8137_61 rfl (zs_ra _) ?_
  refine zu_bipush d_8137_62 zj_43 ?_
  refine zu_iload_n d_8137_64 rfl ?_
  refine zu_iload_n d_8137_65 rfl ?_
  refine zu_iconst d_8137_66 zi_0 ?_
  obtain ⟨k1, h⟩ := h
  refine zc_8_649 (x0 := (43 : Int32)) (x1 := p1) (x2 := p2) (x3 := (0 : Int32)) hB rfl k1 d_8137_67 (Nat.le_of_ble_eq_true rfl) h (fun S2 h => ?_)
  refine zu_aload_n d_8137_70 rfl (zs_ra _) ?_
  refine zu_iconst d_8137_71 zi_2 ?_
  refine zu_iconst d_8137_72 zi_0 ?_
  refine zu_iconst d_8137_73 zi_0 ?_
  refine zu_iconst d_8137_74 zi_0 ?_
  obtain ⟨k4, h⟩ := h
  refine zc_8_649 (x0 := (2 : Int32)) (x1 := (0 : Int32)) (x2 := (0 : Int32)) (x3 := (0 : Int32)) hB rfl k4 d_8137_75 (Nat.le_of_ble_eq_true rfl) h (fun S5 h => ?_)
  refine zu_aload_n d_8137_78 rfl (zs_ra _) ?_
  obtain ⟨k7, h⟩ := h
  refine zc_8_538  hB rfl k7 d_8137_79 (Nat.le_of_ble_eq_true rfl) h (fun S8 h => ?_)
  exact zu_vret d_8137_82 zr_8137 h
def w_X9_label_33 (X : zs_X) (d : Nat) (p0 : Nat) (p1 : Int32) (p2 : Int32) (p3 : Int32) (p4 : Int32) (p5 : Int64) (S : zs_T) (Q : zs_Q) : Prop :=
  (zs_K S p0 = some (.inl 8) ∧ zs_C X d 8029 [.ref p0, .int (21 : Int32)] S (zs_kI (fun v3 S2 => (((v3 = 0 → w_X9_label_83 X d p0 p1 p2 p3 p4 p5 S2 Q) ∧ (¬ (v3 = 0) → (zs_K S2 p0 = some (.inl 8) ∧ ∃ b6, (zs_R S2 8139 p0) = some b6 ∧ zs_A S2 b6 0 p2 ∧ ab_n0 X.1 ≤ b6 ∧ ∀ S10, S10 = zs_si S2 b6 p2.toNatClampNeg ((p5).toInt32) → ∃ b13, (zs_R S10 8140 p0) = some b13 ∧ zs_A S2 b13 2 p2 ∧ ab_n0 X.1 ≤ b13 ∧ ∀ S17, S17 = zs_si S10 b13 p2.toNatClampNeg (vp_nar .boolean (zs_I S10 8138 p0)) → w_X9_label_61 X d p0 p1 p2 S17 Q))))) Q))
theorem u_X9_label_33 {σ : Nat → Nat} {n0 : Nat} {bf : ab_B} {d : Nat} {p0 : Nat} {p1 : Int32} {p2 : Int32} {p3 : Int32} {p4 : Int32} {p5 : Int64} {S : zs_T} {Q : zs_Q} (hB : zt_B bf) (h : w_X9_label_33 (zx σ n0 bf) d p0 p1 p2 p3 p4 p5 S Q) : zs_U (zx σ n0 bf) d 8137 33 [(0, .ref p0), (1, .int p1), (2, .int p2), (3, .int p3), (4, .int p4), (5, .long p5)] [] S Q := by
  unfold w_X9_label_33 at h
  refine zu_aload_n d_8137_33 rfl (zs_ra _) ?_
  refine zu_bipush d_8137_34 zj_21 ?_
  obtain ⟨k1, h⟩ := h
  refine zc_8_535 (x0 := (21 : Int32)) hB rfl k1 d_8137_36 (Nat.le_of_ble_eq_true rfl) h (fun v3 S2 h => ?_)
  refine zu_ifeq (t := 83) d_8137_39 rfl (fun c4 => ?_) (fun c4 => ?_)
  · have h := h.1 c4
    exact (u_X9_label_83 hB h).weak ⟨rfl, rfl, rfl, rfl, rfl, rfl, trivial⟩
  · have h := h.2 c4
    refine zu_aload_n d_8137_42 rfl (zs_ra _) ?_
    obtain ⟨k5, h⟩ := h
    refine zg_8_293 rfl d_8137_43 k5 ?_
    refine zu_iload_n d_8137_46 rfl ?_
    refine zu_lload d_8137_47 rfl ?_
    refine zu_stk d_8137_49 rfl rfl ?_
    obtain ⟨b6, e7, h⟩ := h
    refine zs_stk2 (zs_rfe e7) ?_
    obtain ⟨k8, h⟩ := h
    obtain ⟨k9, h⟩ := h
    refine zu_iast (k := 0) d_8137_50 rfl rfl k9 k8 ?_
    generalize e11 : zs_si S2 b6 p2.toNatClampNeg ((p5).toInt32) = S10
    have h := h S10 e11.symm
    have K12 : ∀ b, zs_K S10 b = zs_K S2 b := zs_Kt e11 (zs_Ksi _ _ _ _) (fun _ => rfl)
    refine zu_aload_n d_8137_51 rfl (zs_ra _) ?_
    refine zg_8_296 rfl d_8137_52 ((K12 _).trans k5) ?_
    refine zu_iload_n d_8137_55 rfl ?_
    refine zu_aload_n d_8137_56 rfl (zs_ra _) ?_
    refine zg_8_909 rfl d_8137_57 ((K12 _).trans k5) ?_
    obtain ⟨b13, e14, h⟩ := h
    refine zs_stk2 (zs_rfe e14) ?_
    obtain ⟨k15, h⟩ := h
    obtain ⟨k16, h⟩ := h
    refine zu_bast_bool (k := 2) d_8137_60 rfl rfl k16 (zs_Ak K12 k15) ?_
    generalize e18 : zs_si S10 b13 p2.toNatClampNeg (vp_nar .boolean (zs_I S10 8138 p0)) = S17
    have h := h S17 e18.symm
    have K19 : ∀ b, zs_K S17 b = zs_K S2 b := zs_Kt e18 (zs_Ksi _ _ _ _) K12
    exact (u_X9_label_61 hB h).weak ⟨rfl, rfl, rfl, trivial⟩
def w_X9_label_308 (X : zs_X) (d : Nat) (p0 : Nat) (p1 : Int32) (p2 : Int32) (S : zs_T) (Q : zs_Q) : Prop :=
  (zs_K S p0 = some (.inl 8) ∧ zs_C X d 8030 [.ref p0, .int (39 : Int32), .int p1, .int p2, .int (0 : Int32)] S (zs_kV (fun S2 => (Q (.returned none) S2)) Q))
theorem u_X9_label_308 {σ : Nat → Nat} {n0 : Nat} {bf : ab_B} {d : Nat} {p0 : Nat} {p1 : Int32} {p2 : Int32} {S : zs_T} {Q : zs_Q} (hB : zt_B bf) (h : w_X9_label_308 (zx σ n0 bf) d p0 p1 p2 S Q) : zs_U (zx σ n0 bf) d 8137 308 [(0, .ref p0), (1, .int p1), (2, .int p2)] [] S Q := by
  unfold w_X9_label_308 at h
  refine zu_aload_n d_8137_308 rfl (zs_ra _) ?_
  refine zu_bipush d_8137_309 zj_39 ?_
  refine zu_iload_n d_8137_311 rfl ?_
  refine zu_iload_n d_8137_312 rfl ?_
  refine zu_iconst d_8137_313 zi_0 ?_
  obtain ⟨k1, h⟩ := h
  refine zc_8_649 (x0 := (39 : Int32)) (x1 := p1) (x2 := p2) (x3 := (0 : Int32)) hB rfl k1 d_8137_314 (Nat.le_of_ble_eq_true rfl) h (fun S2 h => ?_)
  exact zu_vret d_8137_317 zr_8137 h
def w_X9_label_285 (X : zs_X) (d : Nat) (p0 : Nat) (S : zs_T) (Q : zs_Q) : Prop :=
  (zs_K S p0 = some (.inl 8) ∧ zs_C X d 8030 [.ref p0, .int (2 : Int32), .int (0 : Int32), .int (0 : Int32), .int (0 : Int32)] S (zs_kV (fun S2 => (Q (.returned none) S2)) Q))
theorem u_X9_label_285 {σ : Nat → Nat} {n0 : Nat} {bf : ab_B} {d : Nat} {p0 : Nat} {S : zs_T} {Q : zs_Q} (hB : zt_B bf) (h : w_X9_label_285 (zx σ n0 bf) d p0 S Q) : zs_U (zx σ n0 bf) d 8137 285 [(0, .ref p0)] [] S Q := by
  unfold w_X9_label_285 at h
  refine zu_aload_n d_8137_285 rfl (zs_ra _) ?_
  refine zu_iconst d_8137_286 zi_2 ?_
  refine zu_iconst d_8137_287 zi_0 ?_
  refine zu_iconst d_8137_288 zi_0 ?_
  refine zu_iconst d_8137_289 zi_0 ?_
  obtain ⟨k1, h⟩ := h
  refine zc_8_649 (x0 := (2 : Int32)) (x1 := (0 : Int32)) (x2 := (0 : Int32)) (x3 := (0 : Int32)) hB rfl k1 d_8137_290 (Nat.le_of_ble_eq_true rfl) h (fun S2 h => ?_)
  refine zu_goto (t := 317) d_8137_293 rfl ?_
  exact zu_vret d_8137_317 zr_8137 h
def w_X9_label_253 (X : zs_X) (d : Nat) (p0 : Nat) (p1 : Int32) (p2 : Int32) (S : zs_T) (Q : zs_Q) : Prop :=
  (zs_K S p0 = some (.inl 8) ∧ ∃ b2, (zs_R S 8072 p0) = some b2 ∧ zs_A S b2 0 p2 ∧ ab_n0 X.1 ≤ b2 ∧ ∀ S6, S6 = zs_si S b2 p2.toNatClampNeg (zs_I S 8077 p0) → zs_C X d 8029 [.ref p0, .int (12 : Int32)] S6 (zs_kI (fun v10 S9 => (((v10 = 0 → (zs_K S9 p0 = some (.inl 8) ∧ zs_C X d 8028 [.ref p0, .int (14 : Int32)] S9 (zs_kV (fun S13 => (zs_K S13 p0 = some (.inl 8) ∧ zs_C X d 8028 [.ref p0, .int (8 : Int32)] S13 (zs_kV (fun S16 => w_X9_label_308 X d p0 p1 p2 S16 Q) Q))) Q))) ∧ (¬ (v10 = 0) → (zs_K S9 p0 = some (.inl 8) ∧ zs_C X d 8014 [.ref p0] S9 (zs_kV (fun S19 => (zs_K S19 p0 = some (.inl 8) ∧ zs_C X d 8030 [.ref p0, .int (42 : Int32), .int p1, .int p2, .int (0 : Int32)] S19 (zs_kV (fun S22 => w_X9_label_285 X d p0 S22 Q) Q))) Q)))))) Q))
theorem u_X9_label_253 {σ : Nat → Nat} {n0 : Nat} {bf : ab_B} {d : Nat} {p0 : Nat} {p1 : Int32} {p2 : Int32} {S : zs_T} {Q : zs_Q} (hB : zt_B bf) (h : w_X9_label_253 (zx σ n0 bf) d p0 p1 p2 S Q) : zs_U (zx σ n0 bf) d 8137 253 [(0, .ref p0), (1, .int p1), (2, .int p2)] [] S Q := by
  unfold w_X9_label_253 at h
  refine zu_aload_n d_8137_253 rfl (zs_ra _) ?_
  obtain ⟨k1, h⟩ := h
  refine zg_8_160 rfl d_8137_254 k1 ?_
  refine zu_iload_n d_8137_257 rfl ?_
  refine zu_aload_n d_8137_258 rfl (zs_ra _) ?_
  refine zg_8_593 rfl d_8137_259 k1 ?_
  obtain ⟨b2, e3, h⟩ := h
  refine zs_stk2 (zs_rfe e3) ?_
  obtain ⟨k4, h⟩ := h
  obtain ⟨k5, h⟩ := h
  refine zu_iast (k := 0) d_8137_262 rfl rfl k5 k4 ?_
  generalize e7 : zs_si S b2 p2.toNatClampNeg (zs_I S 8077 p0) = S6
  have h := h S6 e7.symm
  have K8 : ∀ b, zs_K S6 b = zs_K S b := zs_Kt e7 (zs_Ksi _ _ _ _) (fun _ => rfl)
  refine zu_aload_n d_8137_263 rfl (zs_ra _) ?_
  refine zu_bipush d_8137_264 zj_12 ?_
  refine zc_8_535 (x0 := (12 : Int32)) hB rfl ((K8 _).trans k1) d_8137_266 (Nat.le_of_ble_eq_true rfl) h (fun v10 S9 h => ?_)
  refine zu_ifeq (t := 296) d_8137_269 rfl (fun c11 => ?_) (fun c11 => ?_)
  · have h := h.1 c11
    refine zu_aload_n d_8137_296 rfl (zs_ra _) ?_
    refine zu_bipush d_8137_297 zj_14 ?_
    obtain ⟨k12, h⟩ := h
    refine zc_8_746 (x0 := (14 : Int32)) hB rfl k12 d_8137_299 (Nat.le_of_ble_eq_true rfl) h (fun S13 h => ?_)
    refine zu_aload_n d_8137_302 rfl (zs_ra _) ?_
    refine zu_bipush d_8137_303 zj_8 ?_
    obtain ⟨k15, h⟩ := h
    refine zc_8_746 (x0 := (8 : Int32)) hB rfl k15 d_8137_305 (Nat.le_of_ble_eq_true rfl) h (fun S16 h => ?_)
    exact (u_X9_label_308 hB h).weak ⟨rfl, rfl, rfl, trivial⟩
  · have h := h.2 c11
    refine zu_aload_n d_8137_272 rfl (zs_ra _) ?_
    obtain ⟨k18, h⟩ := h
    refine zc_8_538  hB rfl k18 d_8137_273 (Nat.le_of_ble_eq_true rfl) h (fun S19 h => ?_)
    refine zu_aload_n d_8137_276 rfl (zs_ra _) ?_
    refine zu_bipush d_8137_277 zj_42 ?_
    refine zu_iload_n d_8137_279 rfl ?_
    refine zu_iload_n d_8137_280 rfl ?_
    refine zu_iconst d_8137_281 zi_0 ?_
    obtain ⟨k21, h⟩ := h
    refine zc_8_649 (x0 := (42 : Int32)) (x1 := p1) (x2 := p2) (x3 := (0 : Int32)) hB rfl k21 d_8137_282 (Nat.le_of_ble_eq_true rfl) h (fun S22 h => ?_)
    exact (u_X9_label_285 hB h).weak ⟨rfl, trivial⟩
def w_X9_label_226 (X : zs_X) (d : Nat) (p0 : Nat) (p1 : Int32) (p2 : Int32) (p5 : Int64) (S : zs_T) (Q : zs_Q) : Prop :=
  (zs_K S p0 = some (.inl 8) ∧ ∃ b2, (zs_R S 8075 p0) = some b2 ∧ zs_A S b2 0 (zs_I S 8077 p0) ∧ ab_n0 X.1 ≤ b2 ∧ ∀ S6, S6 = zs_si S b2 (zs_I S 8077 p0).toNatClampNeg ((p5).toInt32) → ∃ b9, (zs_R S6 8072 p0) = some b9 ∧ zs_A S b9 0 p2 ∧ ∃ b12, (zs_R S6 8076 p0) = some b12 ∧ zs_A S b12 0 (zs_I S6 8077 p0) ∧ ab_n0 X.1 ≤ b12 ∧ ∀ S16, S16 = zs_si S6 b12 (zs_I S6 8077 p0).toNatClampNeg (zs_i S6 b9 p2.toNatClampNeg) → w_X9_label_253 X d p0 p1 p2 S16 Q)
theorem u_X9_label_226 {σ : Nat → Nat} {n0 : Nat} {bf : ab_B} {d : Nat} {p0 : Nat} {p1 : Int32} {p2 : Int32} {p5 : Int64} {S : zs_T} {Q : zs_Q} (hB : zt_B bf) (h : w_X9_label_226 (zx σ n0 bf) d p0 p1 p2 p5 S Q) : zs_U (zx σ n0 bf) d 8137 226 [(0, .ref p0), (1, .int p1), (2, .int p2), (5, .long p5)] [] S Q := by
  unfold w_X9_label_226 at h
  refine zu_aload_n d_8137_226 rfl (zs_ra _) ?_
  obtain ⟨k1, h⟩ := h
  refine zg_8_166 rfl d_8137_227 k1 ?_
  refine zu_aload_n d_8137_230 rfl (zs_ra _) ?_
  refine zg_8_593 rfl d_8137_231 k1 ?_
  refine zu_lload d_8137_234 rfl ?_
  refine zu_stk d_8137_236 rfl rfl ?_
  obtain ⟨b2, e3, h⟩ := h
  refine zs_stk2 (zs_rfe e3) ?_
  obtain ⟨k4, h⟩ := h
  obtain ⟨k5, h⟩ := h
  refine zu_iast (k := 0) d_8137_237 rfl rfl k5 k4 ?_
  generalize e7 : zs_si S b2 (zs_I S 8077 p0).toNatClampNeg ((p5).toInt32) = S6
  have h := h S6 e7.symm
  have K8 : ∀ b, zs_K S6 b = zs_K S b := zs_Kt e7 (zs_Ksi _ _ _ _) (fun _ => rfl)
  refine zu_aload_n d_8137_238 rfl (zs_ra _) ?_
  refine zg_8_169 rfl d_8137_239 ((K8 _).trans k1) ?_
  refine zu_aload_n d_8137_242 rfl (zs_ra _) ?_
  refine zg_8_593 rfl d_8137_243 ((K8 _).trans k1) ?_
  refine zu_aload_n d_8137_246 rfl (zs_ra _) ?_
  refine zg_8_160 rfl d_8137_247 ((K8 _).trans k1) ?_
  refine zu_iload_n d_8137_250 rfl ?_
  obtain ⟨b9, e10, h⟩ := h
  refine zs_stk1 (zs_rfe e10) ?_
  obtain ⟨k11, h⟩ := h
  refine zu_iald (k := 0) d_8137_251 rfl rfl (zs_Ak K8 k11) ?_
  obtain ⟨b12, e13, h⟩ := h
  refine zs_stk2 (zs_rfe e13) ?_
  obtain ⟨k14, h⟩ := h
  obtain ⟨k15, h⟩ := h
  refine zu_iast (k := 0) d_8137_252 rfl rfl k15 (zs_Ak K8 k14) ?_
  generalize e17 : zs_si S6 b12 (zs_I S6 8077 p0).toNatClampNeg (zs_i S6 b9 p2.toNatClampNeg) = S16
  have h := h S16 e17.symm
  have K18 : ∀ b, zs_K S16 b = zs_K S b := zs_Kt e17 (zs_Ksi _ _ _ _) K8
  exact (u_X9_label_253 hB h).weak ⟨rfl, rfl, rfl, trivial⟩
def w_X9_label_178 (X : zs_X) (d : Nat) (p0 : Nat) (p1 : Int32) (p2 : Int32) (p5 : Int64) (p7 : Int64) (p10 : Int32) (q0 : Int32) (S : zs_T) (Q : zs_Q) : Prop :=
  (zs_K S p0 = some (.inl 8) ∧ ∃ b2, (zs_R S 8071 p0) = some b2 ∧ zs_A S b2 0 p10 ∧ zs_U X d 8137 145 [(0, .ref p0), (1, .int p1), (2, .int p2), (5, .long p5), (7, .long p7), (9, .int q0), (10, .int (zs_i S b2 p10.toNatClampNeg))] [] S Q)
theorem u_X9_label_178 {σ : Nat → Nat} {n0 : Nat} {bf : ab_B} {d : Nat} {p0 : Nat} {p1 : Int32} {p2 : Int32} {p5 : Int64} {p7 : Int64} {p10 : Int32} {q0 : Int32} {S : zs_T} {Q : zs_Q} (hB : zt_B bf) (h : w_X9_label_178 (zx σ n0 bf) d p0 p1 p2 p5 p7 p10 q0 S Q) : zs_U (zx σ n0 bf) d 8137 178 [(0, .ref p0), (1, .int p1), (2, .int p2), (5, .long p5), (7, .long p7), (10, .int p10)] [.int q0] S Q := by
  unfold w_X9_label_178 at h
  refine zu_istore d_8137_178 (zs_lt zq_8137 rfl) ?_
  refine zu_aload_n d_8137_180 rfl (zs_ra _) ?_
  obtain ⟨k1, h⟩ := h
  refine zg_8_157 rfl d_8137_181 k1 ?_
  refine zu_iload d_8137_184 rfl ?_
  obtain ⟨b2, e3, h⟩ := h
  refine zs_stk1 (zs_rfe e3) ?_
  obtain ⟨k4, h⟩ := h
  refine zu_iald (k := 0) d_8137_186 rfl rfl k4 ?_
  refine zu_istore d_8137_187 (zs_lt zq_8137 rfl) ?_
  refine zu_goto (t := 145) d_8137_189 rfl ?_
  exact h.weak ⟨rfl, rfl, rfl, rfl, rfl, rfl, rfl, trivial⟩
def w_X9_label_173 (X : zs_X) (d : Nat) (p0 : Nat) (p1 : Int32) (p2 : Int32) (p5 : Int64) (p7 : Int64) (p10 : Int32) (S : zs_T) (Q : zs_Q) : Prop :=
  (w_X9_label_178 X d p0 p1 p2 p5 p7 p10 (1 : Int32) S Q)
theorem u_X9_label_173 {σ : Nat → Nat} {n0 : Nat} {bf : ab_B} {d : Nat} {p0 : Nat} {p1 : Int32} {p2 : Int32} {p5 : Int64} {p7 : Int64} {p10 : Int32} {S : zs_T} {Q : zs_Q} (hB : zt_B bf) (h : w_X9_label_173 (zx σ n0 bf) d p0 p1 p2 p5 p7 p10 S Q) : zs_U (zx σ n0 bf) d 8137 173 [(0, .ref p0), (1, .int p1), (2, .int p2), (5, .long p5), (7, .long p7), (10, .int p10)] [] S Q := by
  unfold w_X9_label_173 at h
  refine zu_iconst d_8137_173 zi_1 ?_
  refine zu_goto (t := 178) d_8137_174 rfl ?_
  exact (u_X9_label_178 hB h).weak ⟨rfl, rfl, rfl, rfl, rfl, rfl, trivial⟩
def w_X9_label_145 (X : zs_X) (d : Nat) (p0 : Nat) (p1 : Int32) (p2 : Int32) (p5 : Int64) (p7 : Int64) (p9 : Int32) (p10 : Int32) (S : zs_T) (Q : zs_Q) : Prop :=
  (((p10 ≤ 0 → (((p9 = 0 → (zs_K S p0 = some (.inl 8) ∧ ab_n0 X.1 ≤ p0 ∧ ∀ S5, S5 = zs_sI S 8077 p0 ((zs_I S 8077 p0) + (1 : Int32)) → ∃ b8, (zs_R S5 8074 p0) = some b8 ∧ zs_A S b8 0 (zs_I S5 8077 p0) ∧ ab_n0 X.1 ≤ b8 ∧ ∀ S12, S12 = zs_si S5 b8 (zs_I S5 8077 p0).toNatClampNeg ((p7).toInt32) → w_X9_label_226 X d p0 p1 p2 p5 S12 Q)) ∧ (¬ (p9 = 0) → (zs_K S p0 = some (.inl 8) ∧ zs_C X d 8027 [.ref p0, .int (9 : Int32)] S (zs_kV (fun S16 => (Q (.returned none) S16)) Q)))))) ∧ (¬ (p10 ≤ 0) → (((¬ p9 = 0 → w_X9_label_173 X d p0 p1 p2 p5 p7 p10 S Q) ∧ (¬ (¬ p9 = 0) → (zs_K S p0 = some (.inl 8) ∧ ∃ b20, (zs_R S 8072 p0) = some b20 ∧ zs_A S b20 0 p10 ∧ zs_C X d 8139 [.ref p0, .int (zs_i S b20 p10.toNatClampNeg), .long p7, .long p5] S (zs_kI (fun v24 S23 => (((v24 = 0 → (w_X9_label_178 X d p0 p1 p2 p5 p7 p10 (0 : Int32) S23 Q)) ∧ (¬ (v24 = 0) → w_X9_label_173 X d p0 p1 p2 p5 p7 p10 S23 Q)))) Q))))))))
theorem u_X9_label_145 {σ : Nat → Nat} {n0 : Nat} {bf : ab_B} {d : Nat} {p0 : Nat} {p1 : Int32} {p2 : Int32} {p5 : Int64} {p7 : Int64} {p9 : Int32} {p10 : Int32} {S : zs_T} {Q : zs_Q} (hB : zt_B bf) (h : w_X9_label_145 (zx σ n0 bf) d p0 p1 p2 p5 p7 p9 p10 S Q) : zs_U (zx σ n0 bf) d 8137 145 [(0, .ref p0), (1, .int p1), (2, .int p2), (5, .long p5), (7, .long p7), (9, .int p9), (10, .int p10)] [] S Q := by
  unfold w_X9_label_145 at h
  refine zu_iload d_8137_145 rfl ?_
  refine zu_ifle (t := 192) d_8137_147 rfl (fun c1 => ?_) (fun c1 => ?_)
  · have h := h.1 c1
    refine zu_iload d_8137_192 rfl ?_
    refine zu_ifeq (t := 204) d_8137_194 rfl (fun c2 => ?_) (fun c2 => ?_)
    · have h := h.1 c2
      refine zu_aload_n d_8137_204 rfl (zs_ra _) ?_
      refine zu_dup d_8137_205 rfl ?_
      obtain ⟨k3, h⟩ := h
      refine zg_8_593 rfl d_8137_206 k3 ?_
      refine zu_iconst d_8137_209 zi_1 ?_
      refine zu_stk d_8137_210 rfl rfl ?_
      obtain ⟨k4, h⟩ := h
      refine zp_8_593 (v := ((zs_I S 8077 p0) + (1 : Int32))) rfl d_8137_211 k3 k4 ?_
      generalize e6 : zs_sI S 8077 p0 ((zs_I S 8077 p0) + (1 : Int32)) = S5
      have h := h S5 e6.symm
      have K7 : ∀ b, zs_K S5 b = zs_K S b := zs_Kt e6 (zs_KsI _ _ _ _) (fun _ => rfl)
      refine zu_aload_n d_8137_214 rfl (zs_ra _) ?_
      refine zg_8_163 rfl d_8137_215 ((K7 _).trans k3) ?_
      refine zu_aload_n d_8137_218 rfl (zs_ra _) ?_
      refine zg_8_593 rfl d_8137_219 ((K7 _).trans k3) ?_
      refine zu_lload d_8137_222 rfl ?_
      refine zu_stk d_8137_224 rfl rfl ?_
      obtain ⟨b8, e9, h⟩ := h
      refine zs_stk2 (zs_rfe e9) ?_
      obtain ⟨k10, h⟩ := h
      obtain ⟨k11, h⟩ := h
      refine zu_iast (k := 0) d_8137_225 rfl rfl k11 (zs_Ak K7 k10) ?_
      generalize e13 : zs_si S5 b8 (zs_I S5 8077 p0).toNatClampNeg ((p7).toInt32) = S12
      have h := h S12 e13.symm
      have K14 : ∀ b, zs_K S12 b = zs_K S b := zs_Kt e13 (zs_Ksi _ _ _ _) K7
      exact (u_X9_label_226 hB h).weak ⟨rfl, rfl, rfl, rfl, trivial⟩
    · have h := h.2 c2
      refine zu_aload_n d_8137_197 rfl (zs_ra _) ?_
      refine zu_bipush d_8137_198 zj_9 ?_
      obtain ⟨k15, h⟩ := h
      refine zc_8_541 (x0 := (9 : Int32)) hB rfl k15 d_8137_200 (Nat.le_of_ble_eq_true rfl) h (fun S16 h => ?_)
      exact zu_vret d_8137_203 zr_8137 h
  · have h := h.2 c1
    refine zu_iload d_8137_150 rfl ?_
    refine zu_ifne (t := 173) d_8137_152 rfl (fun c18 => ?_) (fun c18 => ?_)
    · have h := h.1 c18
      exact (u_X9_label_173 hB h).weak ⟨rfl, rfl, rfl, rfl, rfl, rfl, trivial⟩
    · have h := h.2 c18
      refine zu_aload_n d_8137_155 rfl (zs_ra _) ?_
      refine zu_aload_n d_8137_156 rfl (zs_ra _) ?_
      obtain ⟨k19, h⟩ := h
      refine zg_8_160 rfl d_8137_157 k19 ?_
      refine zu_iload d_8137_160 rfl ?_
      obtain ⟨b20, e21, h⟩ := h
      refine zs_stk1 (zs_rfe e21) ?_
      obtain ⟨k22, h⟩ := h
      refine zu_iald (k := 0) d_8137_162 rfl rfl k22 ?_
      refine zu_lload d_8137_163 rfl ?_
      refine zu_lload d_8137_165 rfl ?_
      refine zc_8_915 (x0 := (zs_i S b20 p10.toNatClampNeg)) (x1 := p7) (x2 := p5) hB rfl k19 d_8137_167 (Nat.le_of_ble_eq_true rfl) h (fun v24 S23 h => ?_)
      refine zu_ifeq (t := 177) d_8137_170 rfl (fun c25 => ?_) (fun c25 => ?_)
      · have h := h.1 c25
        refine zu_iconst d_8137_177 zi_0 ?_
        exact (u_X9_label_178 hB h).weak ⟨rfl, rfl, rfl, rfl, rfl, rfl, trivial⟩
      · have h := h.2 c25
        exact (u_X9_label_173 hB h).weak ⟨rfl, rfl, rfl, rfl, rfl, rfl, trivial⟩
def w_X9_label (X : zs_X) (d : Nat) (p0 : Nat) (p1 : Int32) (p2 : Int32) (p3 : Int32) (S : zs_T) (Q : zs_Q) : Prop :=
  (zs_K S p0 = some (.inl 8) ∧ ∃ b2, (zs_R S 8070 p0) = some b2 ∧ zs_A S b2 0 p2 ∧ ∃ b5, (zs_R S 8065 p0) = some b5 ∧ zs_A S b5 0 (zs_i S b2 p2.toNatClampNeg) ∧ zs_C X d 8138 [.ref p0, .int (zs_i S b5 (zs_i S b2 p2.toNatClampNeg).toNatClampNeg)] S (zs_kJ (fun v9 S8 => (zs_K S8 p0 = some (.inl 8) ∧ (((zs_I S8 8010 p0) ≤ 0 → (((¬ p3 = 0 → w_X9_label_83 X d p0 p1 p2 p3 (zs_i S b2 p2.toNatClampNeg) v9 S8 Q) ∧ (¬ (¬ p3 = 0) → w_X9_label_33 X d p0 p1 p2 p3 (zs_i S b2 p2.toNatClampNeg) v9 S8 Q)))) ∧ (¬ ((zs_I S8 8010 p0) ≤ 0) → (Q (.returned none) S8))))) Q))
theorem u_X9_label {σ : Nat → Nat} {n0 : Nat} {bf : ab_B} {d : Nat} {p0 : Nat} {p1 : Int32} {p2 : Int32} {p3 : Int32} {S : zs_T} {Q : zs_Q} (hB : zt_B bf) (hd : 1 ≤ d) (h : w_X9_label (zx σ n0 bf) (d - 1) p0 p1 p2 p3 S Q) : zs_C (zx σ n0 bf) d 8137 [.ref p0, .int p1, .int p2, .int p3] S Q := by
  have hL : lv_args 0 [.ref p0, .int p1, .int p2, .int p3] = [(0, .ref p0), (1, .int p1), (2, .int p2), (3, .int p3)] := rfl
  refine zs_C.of1 (hB.2 8137 (by decide) (by decide)) hd (by rw [hL]; exact zs_sub_self _ (by exact ⟨rfl, rfl, rfl, rfl, trivial⟩)) ?_
  rw [hL]
  clear hL
  unfold w_X9_label at h
  refine zu_aload_n d_8137_0 rfl (zs_ra _) ?_
  obtain ⟨k1, h⟩ := h
  refine zg_8_154 rfl d_8137_1 k1 ?_
  refine zu_iload_n d_8137_4 rfl ?_
  obtain ⟨b2, e3, h⟩ := h
  refine zs_stk1 (zs_rfe e3) ?_
  obtain ⟨k4, h⟩ := h
  refine zu_iald (k := 0) d_8137_5 rfl rfl k4 ?_
  refine zu_istore d_8137_6 (zs_lt zq_8137 rfl) ?_
  refine zu_aload_n d_8137_8 rfl (zs_ra _) ?_
  refine zu_aload_n d_8137_9 rfl (zs_ra _) ?_
  refine zg_8_142 rfl d_8137_10 k1 ?_
  refine zu_iload d_8137_13 rfl ?_
  obtain ⟨b5, e6, h⟩ := h
  refine zs_stk1 (zs_rfe e6) ?_
  obtain ⟨k7, h⟩ := h
  refine zu_iald (k := 0) d_8137_15 rfl rfl k7 ?_
  refine zc_8_912 (x0 := (zs_i S b5 (zs_i S b2 p2.toNatClampNeg).toNatClampNeg)) hB rfl k1 d_8137_16 (Nat.le_of_ble_eq_true rfl) h (fun v9 S8 h => ?_)
  refine zu_lstore d_8137_19 (zs_lt zq_8137 rfl) ?_
  refine zu_aload_n d_8137_21 rfl (zs_ra _) ?_
  obtain ⟨k10, h⟩ := h
  refine zg_8_444 rfl d_8137_22 k10 ?_
  refine zu_ifle (t := 29) d_8137_25 rfl (fun c11 => ?_) (fun c11 => ?_)
  · have h := h.1 c11
    refine zu_iload_n d_8137_29 rfl ?_
    refine zu_ifne (t := 83) d_8137_30 rfl (fun c12 => ?_) (fun c12 => ?_)
    · have h := h.1 c12
      exact (u_X9_label_83 hB h).weak ⟨rfl, rfl, rfl, rfl, rfl, rfl, trivial⟩
    · have h := h.2 c12
      exact (u_X9_label_33 hB h).weak ⟨rfl, rfl, rfl, rfl, rfl, rfl, trivial⟩
  · have h := h.2 c11
    exact zu_vret d_8137_28 zr_8137 h
/-! SchemaPascalModel.labelValue(I)J -/
theorem zm_8138 {σ : Nat → Nat} {n0 : Nat} {bf : ab_B} : ab_code (zx σ n0 bf).1 8138 = prog_17_method_133_code := rfl
theorem zq_8138 {σ : Nat → Nat} {n0 : Nat} {bf : ab_B} : ab_maxL (zx σ n0 bf).1 8138 = 5 := rfl
theorem zr_8138 {σ : Nat → Nat} {n0 : Nat} {bf : ab_B} : ab_ret (zx σ n0 bf).1 8138 = (Option.some Jvm.ClassFile.FieldType.long) := rfl
theorem d_8138_0 {σ : Nat → Nat} {n0 : Nat} {bf : ab_B} : decode (ab_code (zx σ n0 bf).1 8138) 0 = .ok (.aload_n 0, 1) := zd zm_8138 (by decide +kernel)
theorem d_8138_1 {σ : Nat → Nat} {n0 : Nat} {bf : ab_B} : decode (ab_code (zx σ n0 bf).1 8138) 1 = .ok (.getfield 444, 3) := zd zm_8138 (by decide +kernel)
theorem d_8138_4 {σ : Nat → Nat} {n0 : Nat} {bf : ab_B} : decode (ab_code (zx σ n0 bf).1 8138) 4 = .ok (.ifCond .le 5, 3) := zd zm_8138 (by decide +kernel)
theorem d_8138_7 {σ : Nat → Nat} {n0 : Nat} {bf : ab_B} : decode (ab_code (zx σ n0 bf).1 8138) 7 = .ok (.lconst 0, 1) := zd zm_8138 (by decide +kernel)
theorem d_8138_8 {σ : Nat → Nat} {n0 : Nat} {bf : ab_B} : decode (ab_code (zx σ n0 bf).1 8138) 8 = .ok (.lreturn, 1) := zd zm_8138 (by decide +kernel)
theorem d_8138_9 {σ : Nat → Nat} {n0 : Nat} {bf : ab_B} : decode (ab_code (zx σ n0 bf).1 8138) 9 = .ok (.aload_n 0, 1) := zd zm_8138 (by decide +kernel)
theorem d_8138_10 {σ : Nat → Nat} {n0 : Nat} {bf : ab_B} : decode (ab_code (zx σ n0 bf).1 8138) 10 = .ok (.getfield 653, 3) := zd zm_8138 (by decide +kernel)
theorem d_8138_13 {σ : Nat → Nat} {n0 : Nat} {bf : ab_B} : decode (ab_code (zx σ n0 bf).1 8138) 13 = .ok (.iconst 1, 1) := zd zm_8138 (by decide +kernel)
theorem d_8138_14 {σ : Nat → Nat} {n0 : Nat} {bf : ab_B} : decode (ab_code (zx σ n0 bf).1 8138) 14 = .ok (.isub, 1) := zd zm_8138 (by decide +kernel)
theorem d_8138_15 {σ : Nat → Nat} {n0 : Nat} {bf : ab_B} : decode (ab_code (zx σ n0 bf).1 8138) 15 = .ok (.istore_n 2, 1) := zd zm_8138 (by decide +kernel)
theorem d_8138_16 {σ : Nat → Nat} {n0 : Nat} {bf : ab_B} : decode (ab_code (zx σ n0 bf).1 8138) 16 = .ok (.aload_n 0, 1) := zd zm_8138 (by decide +kernel)
theorem d_8138_17 {σ : Nat → Nat} {n0 : Nat} {bf : ab_B} : decode (ab_code (zx σ n0 bf).1 8138) 17 = .ok (.aload_n 0, 1) := zd zm_8138 (by decide +kernel)
theorem d_8138_18 {σ : Nat → Nat} {n0 : Nat} {bf : ab_B} : decode (ab_code (zx σ n0 bf).1 8138) 18 = .ok (.getfield 200, 3) := zd zm_8138 (by decide +kernel)
theorem d_8138_21 {σ : Nat → Nat} {n0 : Nat} {bf : ab_B} : decode (ab_code (zx σ n0 bf).1 8138) 21 = .ok (.iload_n 2, 1) := zd zm_8138 (by decide +kernel)
theorem d_8138_22 {σ : Nat → Nat} {n0 : Nat} {bf : ab_B} : decode (ab_code (zx σ n0 bf).1 8138) 22 = .ok (.iaload, 1) := zd zm_8138 (by decide +kernel)
theorem d_8138_23 {σ : Nat → Nat} {n0 : Nat} {bf : ab_B} : decode (ab_code (zx σ n0 bf).1 8138) 23 = .ok (.bipush 32, 2) := zd zm_8138 (by decide +kernel)
theorem d_8138_25 {σ : Nat → Nat} {n0 : Nat} {bf : ab_B} : decode (ab_code (zx σ n0 bf).1 8138) 25 = .ok (.iand, 1) := zd zm_8138 (by decide +kernel)
theorem d_8138_26 {σ : Nat → Nat} {n0 : Nat} {bf : ab_B} : decode (ab_code (zx σ n0 bf).1 8138) 26 = .ok (.ifCond .eq 7, 3) := zd zm_8138 (by decide +kernel)
theorem d_8138_29 {σ : Nat → Nat} {n0 : Nat} {bf : ab_B} : decode (ab_code (zx σ n0 bf).1 8138) 29 = .ok (.iconst 1, 1) := zd zm_8138 (by decide +kernel)
theorem d_8138_30 {σ : Nat → Nat} {n0 : Nat} {bf : ab_B} : decode (ab_code (zx σ n0 bf).1 8138) 30 = .ok (.goto 4, 3) := zd zm_8138 (by decide +kernel)
theorem d_8138_33 {σ : Nat → Nat} {n0 : Nat} {bf : ab_B} : decode (ab_code (zx σ n0 bf).1 8138) 33 = .ok (.iconst 0, 1) := zd zm_8138 (by decide +kernel)
theorem d_8138_34 {σ : Nat → Nat} {n0 : Nat} {bf : ab_B} : decode (ab_code (zx σ n0 bf).1 8138) 34 = .ok (.putfield 909, 3) := zd zm_8138 (by decide +kernel)
theorem d_8138_37 {σ : Nat → Nat} {n0 : Nat} {bf : ab_B} : decode (ab_code (zx σ n0 bf).1 8138) 37 = .ok (.aload_n 0, 1) := zd zm_8138 (by decide +kernel)
theorem d_8138_38 {σ : Nat → Nat} {n0 : Nat} {bf : ab_B} : decode (ab_code (zx σ n0 bf).1 8138) 38 = .ok (.getfield 909, 3) := zd zm_8138 (by decide +kernel)
theorem d_8138_41 {σ : Nat → Nat} {n0 : Nat} {bf : ab_B} : decode (ab_code (zx σ n0 bf).1 8138) 41 = .ok (.ifCond .eq 25, 3) := zd zm_8138 (by decide +kernel)
theorem d_8138_44 {σ : Nat → Nat} {n0 : Nat} {bf : ab_B} : decode (ab_code (zx σ n0 bf).1 8138) 44 = .ok (.aload_n 0, 1) := zd zm_8138 (by decide +kernel)
theorem d_8138_45 {σ : Nat → Nat} {n0 : Nat} {bf : ab_B} : decode (ab_code (zx σ n0 bf).1 8138) 45 = .ok (.aload_n 0, 1) := zd zm_8138 (by decide +kernel)
theorem d_8138_46 {σ : Nat → Nat} {n0 : Nat} {bf : ab_B} : decode (ab_code (zx σ n0 bf).1 8138) 46 = .ok (.getfield 203, 3) := zd zm_8138 (by decide +kernel)
theorem d_8138_49 {σ : Nat → Nat} {n0 : Nat} {bf : ab_B} : decode (ab_code (zx σ n0 bf).1 8138) 49 = .ok (.iload_n 2, 1) := zd zm_8138 (by decide +kernel)
theorem d_8138_50 {σ : Nat → Nat} {n0 : Nat} {bf : ab_B} : decode (ab_code (zx σ n0 bf).1 8138) 50 = .ok (.iaload, 1) := zd zm_8138 (by decide +kernel)
theorem d_8138_51 {σ : Nat → Nat} {n0 : Nat} {bf : ab_B} : decode (ab_code (zx σ n0 bf).1 8138) 51 = .ok (.putfield 556, 3) := zd zm_8138 (by decide +kernel)
theorem d_8138_54 {σ : Nat → Nat} {n0 : Nat} {bf : ab_B} : decode (ab_code (zx σ n0 bf).1 8138) 54 = .ok (.aload_n 0, 1) := zd zm_8138 (by decide +kernel)
theorem d_8138_55 {σ : Nat → Nat} {n0 : Nat} {bf : ab_B} : decode (ab_code (zx σ n0 bf).1 8138) 55 = .ok (.dup, 1) := zd zm_8138 (by decide +kernel)
theorem d_8138_56 {σ : Nat → Nat} {n0 : Nat} {bf : ab_B} : decode (ab_code (zx σ n0 bf).1 8138) 56 = .ok (.getfield 653, 3) := zd zm_8138 (by decide +kernel)
theorem d_8138_59 {σ : Nat → Nat} {n0 : Nat} {bf : ab_B} : decode (ab_code (zx σ n0 bf).1 8138) 59 = .ok (.iconst 1, 1) := zd zm_8138 (by decide +kernel)
theorem d_8138_60 {σ : Nat → Nat} {n0 : Nat} {bf : ab_B} : decode (ab_code (zx σ n0 bf).1 8138) 60 = .ok (.isub, 1) := zd zm_8138 (by decide +kernel)
theorem d_8138_61 {σ : Nat → Nat} {n0 : Nat} {bf : ab_B} : decode (ab_code (zx σ n0 bf).1 8138) 61 = .ok (.putfield 653, 3) := zd zm_8138 (by decide +kernel)
theorem d_8138_64 {σ : Nat → Nat} {n0 : Nat} {bf : ab_B} : decode (ab_code (zx σ n0 bf).1 8138) 64 = .ok (.lconst 0, 1) := zd zm_8138 (by decide +kernel)
theorem d_8138_65 {σ : Nat → Nat} {n0 : Nat} {bf : ab_B} : decode (ab_code (zx σ n0 bf).1 8138) 65 = .ok (.lreturn, 1) := zd zm_8138 (by decide +kernel)
theorem d_8138_66 {σ : Nat → Nat} {n0 : Nat} {bf : ab_B} : decode (ab_code (zx σ n0 bf).1 8138) 66 = .ok (.aload_n 0, 1) := zd zm_8138 (by decide +kernel)
theorem d_8138_67 {σ : Nat → Nat} {n0 : Nat} {bf : ab_B} : decode (ab_code (zx σ n0 bf).1 8138) 67 = .ok (.invokevirtual 660, 3) := zd zm_8138 (by decide +kernel)
theorem d_8138_70 {σ : Nat → Nat} {n0 : Nat} {bf : ab_B} : decode (ab_code (zx σ n0 bf).1 8138) 70 = .ok (.aload_n 0, 1) := zd zm_8138 (by decide +kernel)
theorem d_8138_71 {σ : Nat → Nat} {n0 : Nat} {bf : ab_B} : decode (ab_code (zx σ n0 bf).1 8138) 71 = .ok (.getfield 444, 3) := zd zm_8138 (by decide +kernel)
theorem d_8138_74 {σ : Nat → Nat} {n0 : Nat} {bf : ab_B} : decode (ab_code (zx σ n0 bf).1 8138) 74 = .ok (.ifCond .le 5, 3) := zd zm_8138 (by decide +kernel)
theorem d_8138_77 {σ : Nat → Nat} {n0 : Nat} {bf : ab_B} : decode (ab_code (zx σ n0 bf).1 8138) 77 = .ok (.lconst 0, 1) := zd zm_8138 (by decide +kernel)
theorem d_8138_78 {σ : Nat → Nat} {n0 : Nat} {bf : ab_B} : decode (ab_code (zx σ n0 bf).1 8138) 78 = .ok (.lreturn, 1) := zd zm_8138 (by decide +kernel)
theorem d_8138_79 {σ : Nat → Nat} {n0 : Nat} {bf : ab_B} : decode (ab_code (zx σ n0 bf).1 8138) 79 = .ok (.aload_n 0, 1) := zd zm_8138 (by decide +kernel)
theorem d_8138_80 {σ : Nat → Nat} {n0 : Nat} {bf : ab_B} : decode (ab_code (zx σ n0 bf).1 8138) 80 = .ok (.getfield 197, 3) := zd zm_8138 (by decide +kernel)
theorem d_8138_83 {σ : Nat → Nat} {n0 : Nat} {bf : ab_B} : decode (ab_code (zx σ n0 bf).1 8138) 83 = .ok (.iload_n 2, 1) := zd zm_8138 (by decide +kernel)
theorem d_8138_84 {σ : Nat → Nat} {n0 : Nat} {bf : ab_B} : decode (ab_code (zx σ n0 bf).1 8138) 84 = .ok (.baload, 1) := zd zm_8138 (by decide +kernel)
theorem d_8138_85 {σ : Nat → Nat} {n0 : Nat} {bf : ab_B} : decode (ab_code (zx σ n0 bf).1 8138) 85 = .ok (.ifCond .eq 23, 3) := zd zm_8138 (by decide +kernel)
theorem d_8138_88 {σ : Nat → Nat} {n0 : Nat} {bf : ab_B} : decode (ab_code (zx σ n0 bf).1 8138) 88 = .ok (.aload_n 0, 1) := zd zm_8138 (by decide +kernel)
theorem d_8138_89 {σ : Nat → Nat} {n0 : Nat} {bf : ab_B} : decode (ab_code (zx σ n0 bf).1 8138) 89 = .ok (.aload_n 0, 1) := zd zm_8138 (by decide +kernel)
theorem d_8138_90 {σ : Nat → Nat} {n0 : Nat} {bf : ab_B} : decode (ab_code (zx σ n0 bf).1 8138) 90 = .ok (.getfield 191, 3) := zd zm_8138 (by decide +kernel)
theorem d_8138_93 {σ : Nat → Nat} {n0 : Nat} {bf : ab_B} : decode (ab_code (zx σ n0 bf).1 8138) 93 = .ok (.iload_n 2, 1) := zd zm_8138 (by decide +kernel)
theorem d_8138_94 {σ : Nat → Nat} {n0 : Nat} {bf : ab_B} : decode (ab_code (zx σ n0 bf).1 8138) 94 = .ok (.iaload, 1) := zd zm_8138 (by decide +kernel)
theorem d_8138_95 {σ : Nat → Nat} {n0 : Nat} {bf : ab_B} : decode (ab_code (zx σ n0 bf).1 8138) 95 = .ok (.invokevirtual 564, 3) := zd zm_8138 (by decide +kernel)
theorem d_8138_98 {σ : Nat → Nat} {n0 : Nat} {bf : ab_B} : decode (ab_code (zx σ n0 bf).1 8138) 98 = .ok (.ifCond .eq 10, 3) := zd zm_8138 (by decide +kernel)
theorem d_8138_101 {σ : Nat → Nat} {n0 : Nat} {bf : ab_B} : decode (ab_code (zx σ n0 bf).1 8138) 101 = .ok (.aload_n 0, 1) := zd zm_8138 (by decide +kernel)
theorem d_8138_102 {σ : Nat → Nat} {n0 : Nat} {bf : ab_B} : decode (ab_code (zx σ n0 bf).1 8138) 102 = .ok (.invokevirtual 877, 3) := zd zm_8138 (by decide +kernel)
theorem d_8138_105 {σ : Nat → Nat} {n0 : Nat} {bf : ab_B} : decode (ab_code (zx σ n0 bf).1 8138) 105 = .ok (.ifCond .eq 10, 3) := zd zm_8138 (by decide +kernel)
theorem d_8138_108 {σ : Nat → Nat} {n0 : Nat} {bf : ab_B} : decode (ab_code (zx σ n0 bf).1 8138) 108 = .ok (.aload_n 0, 1) := zd zm_8138 (by decide +kernel)
theorem d_8138_109 {σ : Nat → Nat} {n0 : Nat} {bf : ab_B} : decode (ab_code (zx σ n0 bf).1 8138) 109 = .ok (.iconst 5, 1) := zd zm_8138 (by decide +kernel)
theorem d_8138_110 {σ : Nat → Nat} {n0 : Nat} {bf : ab_B} : decode (ab_code (zx σ n0 bf).1 8138) 110 = .ok (.invokevirtual 541, 3) := zd zm_8138 (by decide +kernel)
theorem d_8138_113 {σ : Nat → Nat} {n0 : Nat} {bf : ab_B} : decode (ab_code (zx σ n0 bf).1 8138) 113 = .ok (.lconst 0, 1) := zd zm_8138 (by decide +kernel)
theorem d_8138_114 {σ : Nat → Nat} {n0 : Nat} {bf : ab_B} : decode (ab_code (zx σ n0 bf).1 8138) 114 = .ok (.lreturn, 1) := zd zm_8138 (by decide +kernel)
theorem d_8138_115 {σ : Nat → Nat} {n0 : Nat} {bf : ab_B} : decode (ab_code (zx σ n0 bf).1 8138) 115 = .ok (.aload_n 0, 1) := zd zm_8138 (by decide +kernel)
theorem d_8138_116 {σ : Nat → Nat} {n0 : Nat} {bf : ab_B} : decode (ab_code (zx σ n0 bf).1 8138) 116 = .ok (.aload_n 0, 1) := zd zm_8138 (by decide +kernel)
theorem d_8138_117 {σ : Nat → Nat} {n0 : Nat} {bf : ab_B} : decode (ab_code (zx σ n0 bf).1 8138) 117 = .ok (.aload_n 0, 1) := zd zm_8138 (by decide +kernel)
theorem d_8138_118 {σ : Nat → Nat} {n0 : Nat} {bf : ab_B} : decode (ab_code (zx σ n0 bf).1 8138) 118 = .ok (.getfield 191, 3) := zd zm_8138 (by decide +kernel)
theorem d_8138_121 {σ : Nat → Nat} {n0 : Nat} {bf : ab_B} : decode (ab_code (zx σ n0 bf).1 8138) 121 = .ok (.iload_n 2, 1) := zd zm_8138 (by decide +kernel)
theorem d_8138_122 {σ : Nat → Nat} {n0 : Nat} {bf : ab_B} : decode (ab_code (zx σ n0 bf).1 8138) 122 = .ok (.iaload, 1) := zd zm_8138 (by decide +kernel)
theorem d_8138_123 {σ : Nat → Nat} {n0 : Nat} {bf : ab_B} : decode (ab_code (zx σ n0 bf).1 8138) 123 = .ok (.invokevirtual 561, 3) := zd zm_8138 (by decide +kernel)
theorem d_8138_126 {σ : Nat → Nat} {n0 : Nat} {bf : ab_B} : decode (ab_code (zx σ n0 bf).1 8138) 126 = .ok (.aload_n 0, 1) := zd zm_8138 (by decide +kernel)
theorem d_8138_127 {σ : Nat → Nat} {n0 : Nat} {bf : ab_B} : decode (ab_code (zx σ n0 bf).1 8138) 127 = .ok (.iload_n 1, 1) := zd zm_8138 (by decide +kernel)
theorem d_8138_128 {σ : Nat → Nat} {n0 : Nat} {bf : ab_B} : decode (ab_code (zx σ n0 bf).1 8138) 128 = .ok (.invokevirtual 561, 3) := zd zm_8138 (by decide +kernel)
theorem d_8138_131 {σ : Nat → Nat} {n0 : Nat} {bf : ab_B} : decode (ab_code (zx σ n0 bf).1 8138) 131 = .ok (.if_icmp .eq 7, 3) := zd zm_8138 (by decide +kernel)
theorem d_8138_134 {σ : Nat → Nat} {n0 : Nat} {bf : ab_B} : decode (ab_code (zx σ n0 bf).1 8138) 134 = .ok (.iconst 1, 1) := zd zm_8138 (by decide +kernel)
theorem d_8138_135 {σ : Nat → Nat} {n0 : Nat} {bf : ab_B} : decode (ab_code (zx σ n0 bf).1 8138) 135 = .ok (.goto 4, 3) := zd zm_8138 (by decide +kernel)
theorem d_8138_138 {σ : Nat → Nat} {n0 : Nat} {bf : ab_B} : decode (ab_code (zx σ n0 bf).1 8138) 138 = .ok (.iconst 0, 1) := zd zm_8138 (by decide +kernel)
theorem d_8138_139 {σ : Nat → Nat} {n0 : Nat} {bf : ab_B} : decode (ab_code (zx σ n0 bf).1 8138) 139 = .ok (.putfield 909, 3) := zd zm_8138 (by decide +kernel)
theorem d_8138_142 {σ : Nat → Nat} {n0 : Nat} {bf : ab_B} : decode (ab_code (zx σ n0 bf).1 8138) 142 = .ok (.aload_n 0, 1) := zd zm_8138 (by decide +kernel)
theorem d_8138_143 {σ : Nat → Nat} {n0 : Nat} {bf : ab_B} : decode (ab_code (zx σ n0 bf).1 8138) 143 = .ok (.invokevirtual 880, 3) := zd zm_8138 (by decide +kernel)
theorem d_8138_146 {σ : Nat → Nat} {n0 : Nat} {bf : ab_B} : decode (ab_code (zx σ n0 bf).1 8138) 146 = .ok (.lstore_n 3, 1) := zd zm_8138 (by decide +kernel)
theorem d_8138_147 {σ : Nat → Nat} {n0 : Nat} {bf : ab_B} : decode (ab_code (zx σ n0 bf).1 8138) 147 = .ok (.aload_n 0, 1) := zd zm_8138 (by decide +kernel)
theorem d_8138_148 {σ : Nat → Nat} {n0 : Nat} {bf : ab_B} : decode (ab_code (zx σ n0 bf).1 8138) 148 = .ok (.aload_n 0, 1) := zd zm_8138 (by decide +kernel)
theorem d_8138_149 {σ : Nat → Nat} {n0 : Nat} {bf : ab_B} : decode (ab_code (zx σ n0 bf).1 8138) 149 = .ok (.getfield 909, 3) := zd zm_8138 (by decide +kernel)
theorem d_8138_152 {σ : Nat → Nat} {n0 : Nat} {bf : ab_B} : decode (ab_code (zx σ n0 bf).1 8138) 152 = .ok (.ifCond .ne 25, 3) := zd zm_8138 (by decide +kernel)
theorem d_8138_155 {σ : Nat → Nat} {n0 : Nat} {bf : ab_B} : decode (ab_code (zx σ n0 bf).1 8138) 155 = .ok (.lload_n 3, 1) := zd zm_8138 (by decide +kernel)
theorem d_8138_156 {σ : Nat → Nat} {n0 : Nat} {bf : ab_B} : decode (ab_code (zx σ n0 bf).1 8138) 156 = .ok (.aload_n 0, 1) := zd zm_8138 (by decide +kernel)
theorem d_8138_157 {σ : Nat → Nat} {n0 : Nat} {bf : ab_B} : decode (ab_code (zx σ n0 bf).1 8138) 157 = .ok (.iload_n 1, 1) := zd zm_8138 (by decide +kernel)
theorem d_8138_158 {σ : Nat → Nat} {n0 : Nat} {bf : ab_B} : decode (ab_code (zx σ n0 bf).1 8138) 158 = .ok (.invokevirtual 789, 3) := zd zm_8138 (by decide +kernel)
theorem d_8138_161 {σ : Nat → Nat} {n0 : Nat} {bf : ab_B} : decode (ab_code (zx σ n0 bf).1 8138) 161 = .ok (.i2l, 1) := zd zm_8138 (by decide +kernel)
theorem d_8138_162 {σ : Nat → Nat} {n0 : Nat} {bf : ab_B} : decode (ab_code (zx σ n0 bf).1 8138) 162 = .ok (.lcmp, 1) := zd zm_8138 (by decide +kernel)
theorem d_8138_163 {σ : Nat → Nat} {n0 : Nat} {bf : ab_B} : decode (ab_code (zx σ n0 bf).1 8138) 163 = .ok (.ifCond .lt 14, 3) := zd zm_8138 (by decide +kernel)
theorem d_8138_166 {σ : Nat → Nat} {n0 : Nat} {bf : ab_B} : decode (ab_code (zx σ n0 bf).1 8138) 166 = .ok (.lload_n 3, 1) := zd zm_8138 (by decide +kernel)
theorem d_8138_167 {σ : Nat → Nat} {n0 : Nat} {bf : ab_B} : decode (ab_code (zx σ n0 bf).1 8138) 167 = .ok (.aload_n 0, 1) := zd zm_8138 (by decide +kernel)
theorem d_8138_168 {σ : Nat → Nat} {n0 : Nat} {bf : ab_B} : decode (ab_code (zx σ n0 bf).1 8138) 168 = .ok (.iload_n 1, 1) := zd zm_8138 (by decide +kernel)
theorem d_8138_169 {σ : Nat → Nat} {n0 : Nat} {bf : ab_B} : decode (ab_code (zx σ n0 bf).1 8138) 169 = .ok (.invokevirtual 774, 3) := zd zm_8138 (by decide +kernel)
theorem d_8138_172 {σ : Nat → Nat} {n0 : Nat} {bf : ab_B} : decode (ab_code (zx σ n0 bf).1 8138) 172 = .ok (.i2l, 1) := zd zm_8138 (by decide +kernel)
theorem d_8138_173 {σ : Nat → Nat} {n0 : Nat} {bf : ab_B} : decode (ab_code (zx σ n0 bf).1 8138) 173 = .ok (.lcmp, 1) := zd zm_8138 (by decide +kernel)
theorem d_8138_174 {σ : Nat → Nat} {n0 : Nat} {bf : ab_B} : decode (ab_code (zx σ n0 bf).1 8138) 174 = .ok (.ifCond .le 7, 3) := zd zm_8138 (by decide +kernel)
theorem d_8138_177 {σ : Nat → Nat} {n0 : Nat} {bf : ab_B} : decode (ab_code (zx σ n0 bf).1 8138) 177 = .ok (.iconst 1, 1) := zd zm_8138 (by decide +kernel)
theorem d_8138_178 {σ : Nat → Nat} {n0 : Nat} {bf : ab_B} : decode (ab_code (zx σ n0 bf).1 8138) 178 = .ok (.goto 4, 3) := zd zm_8138 (by decide +kernel)
theorem d_8138_181 {σ : Nat → Nat} {n0 : Nat} {bf : ab_B} : decode (ab_code (zx σ n0 bf).1 8138) 181 = .ok (.iconst 0, 1) := zd zm_8138 (by decide +kernel)
theorem d_8138_182 {σ : Nat → Nat} {n0 : Nat} {bf : ab_B} : decode (ab_code (zx σ n0 bf).1 8138) 182 = .ok (.putfield 909, 3) := zd zm_8138 (by decide +kernel)
theorem d_8138_185 {σ : Nat → Nat} {n0 : Nat} {bf : ab_B} : decode (ab_code (zx σ n0 bf).1 8138) 185 = .ok (.lload_n 3, 1) := zd zm_8138 (by decide +kernel)
theorem d_8138_186 {σ : Nat → Nat} {n0 : Nat} {bf : ab_B} : decode (ab_code (zx σ n0 bf).1 8138) 186 = .ok (.lreturn, 1) := zd zm_8138 (by decide +kernel)
def w_X9_labelValue_108 (X : zs_X) (d : Nat) (p0 : Nat) (S : zs_T) (Q : zs_Q) : Prop :=
  (zs_K S p0 = some (.inl 8) ∧ zs_C X d 8027 [.ref p0, .int (5 : Int32)] S (zs_kV (fun S2 => (Q (.returned (some (.long (0 : Int64)))) S2)) Q))
theorem u_X9_labelValue_108 {σ : Nat → Nat} {n0 : Nat} {bf : ab_B} {d : Nat} {p0 : Nat} {S : zs_T} {Q : zs_Q} (hB : zt_B bf) (h : w_X9_labelValue_108 (zx σ n0 bf) d p0 S Q) : zs_U (zx σ n0 bf) d 8138 108 [(0, .ref p0)] [] S Q := by
  unfold w_X9_labelValue_108 at h
  refine zu_aload_n d_8138_108 rfl (zs_ra _) ?_
  refine zu_iconst d_8138_109 zi_5 ?_
  obtain ⟨k1, h⟩ := h
  refine zc_8_541 (x0 := (5 : Int32)) hB rfl k1 d_8138_110 (Nat.le_of_ble_eq_true rfl) h (fun S2 h => ?_)
  refine zu_lconst (v := 0) d_8138_113 rfl ?_
  exact zu_lret d_8138_114 zr_8138 h
def w_X9_labelValue_185 (X : zs_X) (d : Nat) (p3 : Int64) (S : zs_T) (Q : zs_Q) : Prop :=
  (Q (.returned (some (.long p3))) S)
theorem u_X9_labelValue_185 {σ : Nat → Nat} {n0 : Nat} {bf : ab_B} {d : Nat} {p3 : Int64} {S : zs_T} {Q : zs_Q} (hB : zt_B bf) (h : w_X9_labelValue_185 (zx σ n0 bf) d p3 S Q) : zs_U (zx σ n0 bf) d 8138 185 [(3, .long p3)] [] S Q := by
  unfold w_X9_labelValue_185 at h
  refine zu_lload_n d_8138_185 rfl ?_
  exact zu_lret d_8138_186 zr_8138 h
def w_X9_labelValue_177 (X : zs_X) (d : Nat) (p3 : Int64) (q0 : Option Nat) (S : zs_T) (Q : zs_Q) : Prop :=
  (∃ b1, q0 = some b1 ∧ zs_K S b1 = some (.inl 8) ∧ ab_n0 X.1 ≤ b1 ∧ ∀ S5, S5 = zs_sI S 8138 b1 (1 : Int32) → w_X9_labelValue_185 X d p3 S5 Q)
theorem u_X9_labelValue_177 {σ : Nat → Nat} {n0 : Nat} {bf : ab_B} {d : Nat} {p3 : Int64} {q0 : Option Nat} {S : zs_T} {Q : zs_Q} (hB : zt_B bf) (h : w_X9_labelValue_177 (zx σ n0 bf) d p3 q0 S Q) : zs_U (zx σ n0 bf) d 8138 177 [(3, .long p3)] [va_rf q0] S Q := by
  unfold w_X9_labelValue_177 at h
  refine zu_iconst d_8138_177 zi_1 ?_
  refine zu_goto (t := 182) d_8138_178 rfl ?_
  obtain ⟨b1, e2, h⟩ := h
  refine zs_stk1 (zs_rfe e2) ?_
  obtain ⟨k3, h⟩ := h
  obtain ⟨k4, h⟩ := h
  refine zp_8_909 (v := (1 : Int32)) rfl d_8138_182 k3 k4 (Or.inr rfl) ?_
  generalize e6 : zs_sI S 8138 b1 (1 : Int32) = S5
  have h := h S5 e6.symm
  have K7 : ∀ b, zs_K S5 b = zs_K S b := zs_Kt e6 (zs_KsI _ _ _ _) (fun _ => rfl)
  exact (u_X9_labelValue_185 hB h).weak ⟨rfl, trivial⟩
def w_X9_labelValue_139 (X : zs_X) (d : Nat) (p0 : Nat) (p1 : Int32) (q0 : Option Nat) (q1 : Int32) (S : zs_T) (Q : zs_Q) : Prop :=
  (∃ b1, q0 = some b1 ∧ zs_K S b1 = some (.inl 8) ∧ ab_n0 X.1 ≤ b1 ∧ zs_b q1 ∧ ∀ S6, S6 = zs_sI S 8138 b1 q1 → zs_K S p0 = some (.inl 8) ∧ zs_C X d 8102 [.ref p0] S6 (zs_kJ (fun v11 S10 => (zs_K S10 p0 = some (.inl 8) ∧ ((¬ (zs_I S10 8138 p0) = 0 → w_X9_labelValue_177 X d v11 (some p0) S10 Q) ∧ (¬ (¬ (zs_I S10 8138 p0) = 0) → (zs_C X d 8111 [.ref p0, .int p1] S10 (zs_kI (fun v15 S14 => (((v11 < ((v15).toInt64) → w_X9_labelValue_177 X d v11 (some p0) S14 Q) ∧ (¬ (v11 < ((v15).toInt64)) → (zs_K S14 p0 = some (.inl 8) ∧ zs_C X d 8088 [.ref p0, .int p1] S14 (zs_kI (fun v19 S18 => (((v11 ≤ ((v19).toInt64) → (zs_K S18 p0 = some (.inl 8) ∧ ab_n0 X.1 ≤ p0 ∧ ∀ S23, S23 = zs_sI S18 8138 p0 (0 : Int32) → w_X9_labelValue_185 X d v11 S23 Q)) ∧ (¬ (v11 ≤ ((v19).toInt64)) → w_X9_labelValue_177 X d v11 (some p0) S18 Q)))) Q)))))) Q)))))) Q))
theorem u_X9_labelValue_139 {σ : Nat → Nat} {n0 : Nat} {bf : ab_B} {d : Nat} {p0 : Nat} {p1 : Int32} {q0 : Option Nat} {q1 : Int32} {S : zs_T} {Q : zs_Q} (hB : zt_B bf) (h : w_X9_labelValue_139 (zx σ n0 bf) d p0 p1 q0 q1 S Q) : zs_U (zx σ n0 bf) d 8138 139 [(0, .ref p0), (1, .int p1)] [.int q1, va_rf q0] S Q := by
  unfold w_X9_labelValue_139 at h
  obtain ⟨b1, e2, h⟩ := h
  refine zs_stk1 (zs_rfe e2) ?_
  obtain ⟨k3, h⟩ := h
  obtain ⟨k4, h⟩ := h
  obtain ⟨k5, h⟩ := h
  refine zp_8_909 (v := q1) rfl d_8138_139 k3 k4 k5 ?_
  generalize e7 : zs_sI S 8138 b1 q1 = S6
  have h := h S6 e7.symm
  have K8 : ∀ b, zs_K S6 b = zs_K S b := zs_Kt e7 (zs_KsI _ _ _ _) (fun _ => rfl)
  refine zu_aload_n d_8138_142 rfl (zs_ra _) ?_
  obtain ⟨k9, h⟩ := h
  refine zc_8_880  hB rfl ((K8 _).trans k9) d_8138_143 (Nat.le_of_ble_eq_true rfl) h (fun v11 S10 h => ?_)
  refine zu_lstore_n d_8138_146 (zs_lt zq_8138 rfl) ?_
  refine zu_aload_n d_8138_147 rfl (zs_ra _) ?_
  refine zu_aload_n d_8138_148 rfl (zs_ra _) ?_
  obtain ⟨k12, h⟩ := h
  refine zg_8_909 rfl d_8138_149 k12 ?_
  refine zu_ifne (t := 177) d_8138_152 rfl (fun c13 => ?_) (fun c13 => ?_)
  · have h := h.1 c13
    exact (u_X9_labelValue_177 hB h).weak ⟨rfl, trivial⟩
  · have h := h.2 c13
    refine zu_lload_n d_8138_155 rfl ?_
    refine zu_aload_n d_8138_156 rfl (zs_ra _) ?_
    refine zu_iload_n d_8138_157 rfl ?_
    refine zc_8_789 (x0 := p1) hB rfl k12 d_8138_158 (Nat.le_of_ble_eq_true rfl) h (fun v15 S14 h => ?_)
    refine zu_stk d_8138_161 rfl rfl ?_
    refine zu_llt (t := 177) d_8138_162 d_8138_163 rfl (fun c16 => ?_) (fun c16 => ?_)
    · have h := h.1 c16
      exact (u_X9_labelValue_177 hB h).weak ⟨rfl, trivial⟩
    · have h := h.2 c16
      refine zu_lload_n d_8138_166 rfl ?_
      refine zu_aload_n d_8138_167 rfl (zs_ra _) ?_
      refine zu_iload_n d_8138_168 rfl ?_
      obtain ⟨k17, h⟩ := h
      refine zc_8_774 (x0 := p1) hB rfl k17 d_8138_169 (Nat.le_of_ble_eq_true rfl) h (fun v19 S18 h => ?_)
      refine zu_stk d_8138_172 rfl rfl ?_
      refine zu_lle (t := 181) d_8138_173 d_8138_174 rfl (fun c20 => ?_) (fun c20 => ?_)
      · have h := h.1 c20
        refine zu_iconst d_8138_181 zi_0 ?_
        obtain ⟨k21, h⟩ := h
        obtain ⟨k22, h⟩ := h
        refine zp_8_909 (v := (0 : Int32)) rfl d_8138_182 k21 k22 (Or.inl rfl) ?_
        generalize e24 : zs_sI S18 8138 p0 (0 : Int32) = S23
        have h := h S23 e24.symm
        have K25 : ∀ b, zs_K S23 b = zs_K S18 b := zs_Kt e24 (zs_KsI _ _ _ _) (fun _ => rfl)
        exact (u_X9_labelValue_185 hB h).weak ⟨rfl, trivial⟩
      · have h := h.2 c20
        exact (u_X9_labelValue_177 hB h).weak ⟨rfl, trivial⟩
def w_X9_labelValue_101 (X : zs_X) (d : Nat) (p0 : Nat) (p1 : Int32) (p2 : Int32) (S : zs_T) (Q : zs_Q) : Prop :=
  (zs_K S p0 = some (.inl 8) ∧ zs_C X d 8101 [.ref p0] S (zs_kI (fun v3 S2 => (((v3 = 0 → (zs_K S2 p0 = some (.inl 8) ∧ ∃ b6, (zs_R S2 8091 p0) = some b6 ∧ zs_A S2 b6 0 p2 ∧ zs_C X d 8042 [.ref p0, .int (zs_i S2 b6 p2.toNatClampNeg)] S2 (zs_kI (fun v10 S9 => (zs_K S9 p0 = some (.inl 8) ∧ zs_C X d 8042 [.ref p0, .int p1] S9 (zs_kI (fun v13 S12 => (((v10 = v13 → (w_X9_labelValue_139 X d p0 p1 (some p0) (0 : Int32) S12 Q)) ∧ (¬ (v10 = v13) → (w_X9_labelValue_139 X d p0 p1 (some p0) (1 : Int32) S12 Q))))) Q))) Q))) ∧ (¬ (v3 = 0) → w_X9_labelValue_108 X d p0 S2 Q)))) Q))
theorem u_X9_labelValue_101 {σ : Nat → Nat} {n0 : Nat} {bf : ab_B} {d : Nat} {p0 : Nat} {p1 : Int32} {p2 : Int32} {S : zs_T} {Q : zs_Q} (hB : zt_B bf) (h : w_X9_labelValue_101 (zx σ n0 bf) d p0 p1 p2 S Q) : zs_U (zx σ n0 bf) d 8138 101 [(0, .ref p0), (1, .int p1), (2, .int p2)] [] S Q := by
  unfold w_X9_labelValue_101 at h
  refine zu_aload_n d_8138_101 rfl (zs_ra _) ?_
  obtain ⟨k1, h⟩ := h
  refine zc_8_877  hB rfl k1 d_8138_102 (Nat.le_of_ble_eq_true rfl) h (fun v3 S2 h => ?_)
  refine zu_ifeq (t := 115) d_8138_105 rfl (fun c4 => ?_) (fun c4 => ?_)
  · have h := h.1 c4
    refine zu_aload_n d_8138_115 rfl (zs_ra _) ?_
    refine zu_aload_n d_8138_116 rfl (zs_ra _) ?_
    refine zu_aload_n d_8138_117 rfl (zs_ra _) ?_
    obtain ⟨k5, h⟩ := h
    refine zg_8_191 rfl d_8138_118 k5 ?_
    refine zu_iload_n d_8138_121 rfl ?_
    obtain ⟨b6, e7, h⟩ := h
    refine zs_stk1 (zs_rfe e7) ?_
    obtain ⟨k8, h⟩ := h
    refine zu_iald (k := 0) d_8138_122 rfl rfl k8 ?_
    refine zc_8_561 (x0 := (zs_i S2 b6 p2.toNatClampNeg)) hB rfl k5 d_8138_123 (Nat.le_of_ble_eq_true rfl) h (fun v10 S9 h => ?_)
    refine zu_aload_n d_8138_126 rfl (zs_ra _) ?_
    refine zu_iload_n d_8138_127 rfl ?_
    obtain ⟨k11, h⟩ := h
    refine zc_8_561 (x0 := p1) hB rfl k11 d_8138_128 (Nat.le_of_ble_eq_true rfl) h (fun v13 S12 h => ?_)
    refine zu_cmpeq (t := 138) d_8138_131 rfl (fun c14 => ?_) (fun c14 => ?_)
    · have h := h.1 c14
      refine zu_iconst d_8138_138 zi_0 ?_
      exact (u_X9_labelValue_139 hB h).weak ⟨rfl, rfl, trivial⟩
    · have h := h.2 c14
      refine zu_iconst d_8138_134 zi_1 ?_
      refine zu_goto (t := 139) d_8138_135 rfl ?_
      exact (u_X9_labelValue_139 hB h).weak ⟨rfl, rfl, trivial⟩
  · have h := h.2 c4
    exact (u_X9_labelValue_108 hB h).weak ⟨rfl, trivial⟩
def w_X9_labelValue_64 (X : zs_X) (d : Nat)  (S : zs_T) (Q : zs_Q) : Prop :=
  (Q (.returned (some (.long (0 : Int64)))) S)
theorem u_X9_labelValue_64 {σ : Nat → Nat} {n0 : Nat} {bf : ab_B} {d : Nat}  {S : zs_T} {Q : zs_Q} (hB : zt_B bf) (h : w_X9_labelValue_64 (zx σ n0 bf) d  S Q) : zs_U (zx σ n0 bf) d 8138 64 [] [] S Q := by
  unfold w_X9_labelValue_64 at h
  refine zu_lconst (v := 0) d_8138_64 rfl ?_
  exact zu_lret d_8138_65 zr_8138 h
def w_X9_labelValue_34 (X : zs_X) (d : Nat) (p0 : Nat) (p1 : Int32) (p2 : Int32) (q0 : Option Nat) (q1 : Int32) (S : zs_T) (Q : zs_Q) : Prop :=
  (∃ b1, q0 = some b1 ∧ zs_K S b1 = some (.inl 8) ∧ ab_n0 X.1 ≤ b1 ∧ zs_b q1 ∧ ∀ S6, S6 = zs_sI S 8138 b1 q1 → zs_K S p0 = some (.inl 8) ∧ (((zs_I S6 8138 p0) = 0 → (zs_C X d 8037 [.ref p0] S6 (zs_kV (fun S11 => (zs_K S11 p0 = some (.inl 8) ∧ (((zs_I S11 8010 p0) ≤ 0 → (∃ b15, (zs_R S11 8093 p0) = some b15 ∧ zs_A S11 b15 2 p2 ∧ (((zs_i S11 b15 p2.toNatClampNeg) = 0 → w_X9_labelValue_108 X d p0 S11 Q) ∧ (¬ ((zs_i S11 b15 p2.toNatClampNeg) = 0) → (∃ b19, (zs_R S11 8091 p0) = some b19 ∧ zs_A S11 b19 0 p2 ∧ zs_C X d 8036 [.ref p0, .int (zs_i S11 b19 p2.toNatClampNeg)] S11 (zs_kI (fun v23 S22 => (((v23 = 0 → w_X9_labelValue_108 X d p0 S22 Q) ∧ (¬ (v23 = 0) → w_X9_labelValue_101 X d p0 p1 p2 S22 Q)))) Q)))))) ∧ (¬ ((zs_I S11 8010 p0) ≤ 0) → (Q (.returned (some (.long (0 : Int64)))) S11))))) Q))) ∧ (¬ ((zs_I S6 8138 p0) = 0) → (∃ b25, (zs_R S6 8095 p0) = some b25 ∧ zs_A S b25 0 p2 ∧ ab_n0 X.1 ≤ p0 ∧ ∀ S29, S29 = zs_sI S6 8040 p0 (zs_i S6 b25 p2.toNatClampNeg) → ∀ S32, S32 = zs_sI S29 8097 p0 ((zs_I S29 8097 p0) - (1 : Int32)) → w_X9_labelValue_64 X d  S32 Q))))
theorem u_X9_labelValue_34 {σ : Nat → Nat} {n0 : Nat} {bf : ab_B} {d : Nat} {p0 : Nat} {p1 : Int32} {p2 : Int32} {q0 : Option Nat} {q1 : Int32} {S : zs_T} {Q : zs_Q} (hB : zt_B bf) (h : w_X9_labelValue_34 (zx σ n0 bf) d p0 p1 p2 q0 q1 S Q) : zs_U (zx σ n0 bf) d 8138 34 [(0, .ref p0), (1, .int p1), (2, .int p2)] [.int q1, va_rf q0] S Q := by
  unfold w_X9_labelValue_34 at h
  obtain ⟨b1, e2, h⟩ := h
  refine zs_stk1 (zs_rfe e2) ?_
  obtain ⟨k3, h⟩ := h
  obtain ⟨k4, h⟩ := h
  obtain ⟨k5, h⟩ := h
  refine zp_8_909 (v := q1) rfl d_8138_34 k3 k4 k5 ?_
  generalize e7 : zs_sI S 8138 b1 q1 = S6
  have h := h S6 e7.symm
  have K8 : ∀ b, zs_K S6 b = zs_K S b := zs_Kt e7 (zs_KsI _ _ _ _) (fun _ => rfl)
  refine zu_aload_n d_8138_37 rfl (zs_ra _) ?_
  obtain ⟨k9, h⟩ := h
  refine zg_8_909 rfl d_8138_38 ((K8 _).trans k9) ?_
  refine zu_ifeq (t := 66) d_8138_41 rfl (fun c10 => ?_) (fun c10 => ?_)
  · have h := h.1 c10
    refine zu_aload_n d_8138_66 rfl (zs_ra _) ?_
    refine zc_8_660  hB rfl ((K8 _).trans k9) d_8138_67 (Nat.le_of_ble_eq_true rfl) h (fun S11 h => ?_)
    refine zu_aload_n d_8138_70 rfl (zs_ra _) ?_
    obtain ⟨k13, h⟩ := h
    refine zg_8_444 rfl d_8138_71 k13 ?_
    refine zu_ifle (t := 79) d_8138_74 rfl (fun c14 => ?_) (fun c14 => ?_)
    · have h := h.1 c14
      refine zu_aload_n d_8138_79 rfl (zs_ra _) ?_
      refine zg_8_197 rfl d_8138_80 k13 ?_
      refine zu_iload_n d_8138_83 rfl ?_
      obtain ⟨b15, e16, h⟩ := h
      refine zs_stk1 (zs_rfe e16) ?_
      obtain ⟨k17, h⟩ := h
      refine zu_bald (k := 2) d_8138_84 rfl (Or.inr rfl) k17 ?_
      refine zu_ifeq (t := 108) d_8138_85 rfl (fun c18 => ?_) (fun c18 => ?_)
      · have h := h.1 c18
        exact (u_X9_labelValue_108 hB h).weak ⟨rfl, trivial⟩
      · have h := h.2 c18
        refine zu_aload_n d_8138_88 rfl (zs_ra _) ?_
        refine zu_aload_n d_8138_89 rfl (zs_ra _) ?_
        refine zg_8_191 rfl d_8138_90 k13 ?_
        refine zu_iload_n d_8138_93 rfl ?_
        obtain ⟨b19, e20, h⟩ := h
        refine zs_stk1 (zs_rfe e20) ?_
        obtain ⟨k21, h⟩ := h
        refine zu_iald (k := 0) d_8138_94 rfl rfl k21 ?_
        refine zc_8_564 (x0 := (zs_i S11 b19 p2.toNatClampNeg)) hB rfl k13 d_8138_95 (Nat.le_of_ble_eq_true rfl) h (fun v23 S22 h => ?_)
        refine zu_ifeq (t := 108) d_8138_98 rfl (fun c24 => ?_) (fun c24 => ?_)
        · have h := h.1 c24
          exact (u_X9_labelValue_108 hB h).weak ⟨rfl, trivial⟩
        · have h := h.2 c24
          exact (u_X9_labelValue_101 hB h).weak ⟨rfl, rfl, rfl, trivial⟩
    · have h := h.2 c14
      refine zu_lconst (v := 0) d_8138_77 rfl ?_
      exact zu_lret d_8138_78 zr_8138 h
  · have h := h.2 c10
    refine zu_aload_n d_8138_44 rfl (zs_ra _) ?_
    refine zu_aload_n d_8138_45 rfl (zs_ra _) ?_
    refine zg_8_203 rfl d_8138_46 ((K8 _).trans k9) ?_
    refine zu_iload_n d_8138_49 rfl ?_
    obtain ⟨b25, e26, h⟩ := h
    refine zs_stk1 (zs_rfe e26) ?_
    obtain ⟨k27, h⟩ := h
    refine zu_iald (k := 0) d_8138_50 rfl rfl (zs_Ak K8 k27) ?_
    obtain ⟨k28, h⟩ := h
    refine zp_8_556 (v := (zs_i S6 b25 p2.toNatClampNeg)) rfl d_8138_51 ((K8 _).trans k9) k28 ?_
    generalize e30 : zs_sI S6 8040 p0 (zs_i S6 b25 p2.toNatClampNeg) = S29
    have h := h S29 e30.symm
    have K31 : ∀ b, zs_K S29 b = zs_K S b := zs_Kt e30 (zs_KsI _ _ _ _) K8
    refine zu_aload_n d_8138_54 rfl (zs_ra _) ?_
    refine zu_dup d_8138_55 rfl ?_
    refine zg_8_653 rfl d_8138_56 ((K31 _).trans k9) ?_
    refine zu_iconst d_8138_59 zi_1 ?_
    refine zu_stk d_8138_60 rfl rfl ?_
    refine zp_8_653 (v := ((zs_I S29 8097 p0) - (1 : Int32))) rfl d_8138_61 ((K31 _).trans k9) k28 ?_
    generalize e33 : zs_sI S29 8097 p0 ((zs_I S29 8097 p0) - (1 : Int32)) = S32
    have h := h S32 e33.symm
    have K34 : ∀ b, zs_K S32 b = zs_K S b := zs_Kt e33 (zs_KsI _ _ _ _) K31
    exact (u_X9_labelValue_64 hB h).weak trivial
def w_X9_labelValue (X : zs_X) (d : Nat) (p0 : Nat) (p1 : Int32) (S : zs_T) (Q : zs_Q) : Prop :=
  (zs_K S p0 = some (.inl 8) ∧ (((zs_I S 8010 p0) ≤ 0 → (∃ b3, (zs_R S 8094 p0) = some b3 ∧ zs_A S b3 0 ((zs_I S 8097 p0) - (1 : Int32)) ∧ ((((zs_i S b3 ((zs_I S 8097 p0) - (1 : Int32)).toNatClampNeg) &&& (32 : Int32)) = 0 → (w_X9_labelValue_34 X d p0 p1 ((zs_I S 8097 p0) - (1 : Int32)) (some p0) (0 : Int32) S Q)) ∧ (¬ (((zs_i S b3 ((zs_I S 8097 p0) - (1 : Int32)).toNatClampNeg) &&& (32 : Int32)) = 0) → (w_X9_labelValue_34 X d p0 p1 ((zs_I S 8097 p0) - (1 : Int32)) (some p0) (1 : Int32) S Q))))) ∧ (¬ ((zs_I S 8010 p0) ≤ 0) → (Q (.returned (some (.long (0 : Int64)))) S))))
theorem u_X9_labelValue {σ : Nat → Nat} {n0 : Nat} {bf : ab_B} {d : Nat} {p0 : Nat} {p1 : Int32} {S : zs_T} {Q : zs_Q} (hB : zt_B bf) (hd : 1 ≤ d) (h : w_X9_labelValue (zx σ n0 bf) (d - 1) p0 p1 S Q) : zs_C (zx σ n0 bf) d 8138 [.ref p0, .int p1] S Q := by
  have hL : lv_args 0 [.ref p0, .int p1] = [(0, .ref p0), (1, .int p1)] := rfl
  refine zs_C.of1 (hB.2 8138 (by decide) (by decide)) hd (by rw [hL]; exact zs_sub_self _ (by exact ⟨rfl, rfl, trivial⟩)) ?_
  rw [hL]
  clear hL
  unfold w_X9_labelValue at h
  refine zu_aload_n d_8138_0 rfl (zs_ra _) ?_
  obtain ⟨k1, h⟩ := h
  refine zg_8_444 rfl d_8138_1 k1 ?_
  refine zu_ifle (t := 9) d_8138_4 rfl (fun c2 => ?_) (fun c2 => ?_)
  · have h := h.1 c2
    refine zu_aload_n d_8138_9 rfl (zs_ra _) ?_
    refine zg_8_653 rfl d_8138_10 k1 ?_
    refine zu_iconst d_8138_13 zi_1 ?_
    refine zu_stk d_8138_14 rfl rfl ?_
    refine zu_istore_n d_8138_15 (zs_lt zq_8138 rfl) ?_
    refine zu_aload_n d_8138_16 rfl (zs_ra _) ?_
    refine zu_aload_n d_8138_17 rfl (zs_ra _) ?_
    refine zg_8_200 rfl d_8138_18 k1 ?_
    refine zu_iload_n d_8138_21 rfl ?_
    obtain ⟨b3, e4, h⟩ := h
    refine zs_stk1 (zs_rfe e4) ?_
    obtain ⟨k5, h⟩ := h
    refine zu_iald (k := 0) d_8138_22 rfl rfl k5 ?_
    refine zu_bipush d_8138_23 zj_32 ?_
    refine zu_stk d_8138_25 rfl rfl ?_
    refine zu_ifeq (t := 33) d_8138_26 rfl (fun c6 => ?_) (fun c6 => ?_)
    · have h := h.1 c6
      refine zu_iconst d_8138_33 zi_0 ?_
      exact (u_X9_labelValue_34 hB h).weak ⟨rfl, rfl, rfl, trivial⟩
    · have h := h.2 c6
      refine zu_iconst d_8138_29 zi_1 ?_
      refine zu_goto (t := 34) d_8138_30 rfl ?_
      exact (u_X9_labelValue_34 hB h).weak ⟨rfl, rfl, rfl, trivial⟩
  · have h := h.2 c2
    refine zu_lconst (v := 0) d_8138_7 rfl ?_
    exact zu_lret d_8138_8 zr_8138 h
/-! SchemaPascalModel.isTold(IJJ)Z -/
theorem zm_8139 {σ : Nat → Nat} {n0 : Nat} {bf : ab_B} : ab_code (zx σ n0 bf).1 8139 = prog_17_method_134_code := rfl
theorem zq_8139 {σ : Nat → Nat} {n0 : Nat} {bf : ab_B} : ab_maxL (zx σ n0 bf).1 8139 = 8 := rfl
theorem zr_8139 {σ : Nat → Nat} {n0 : Nat} {bf : ab_B} : ab_ret (zx σ n0 bf).1 8139 = (Option.some Jvm.ClassFile.FieldType.boolean) := rfl
theorem d_8139_0 {σ : Nat → Nat} {n0 : Nat} {bf : ab_B} : decode (ab_code (zx σ n0 bf).1 8139) 0 = .ok (.iconst 0, 1) := zd zm_8139 (by decide +kernel)
theorem d_8139_1 {σ : Nat → Nat} {n0 : Nat} {bf : ab_B} : decode (ab_code (zx σ n0 bf).1 8139) 1 = .ok (.istore 6, 2) := zd zm_8139 (by decide +kernel)
theorem d_8139_3 {σ : Nat → Nat} {n0 : Nat} {bf : ab_B} : decode (ab_code (zx σ n0 bf).1 8139) 3 = .ok (.iload_n 1, 1) := zd zm_8139 (by decide +kernel)
theorem d_8139_4 {σ : Nat → Nat} {n0 : Nat} {bf : ab_B} : decode (ab_code (zx σ n0 bf).1 8139) 4 = .ok (.istore 7, 2) := zd zm_8139 (by decide +kernel)
theorem d_8139_6 {σ : Nat → Nat} {n0 : Nat} {bf : ab_B} : decode (ab_code (zx σ n0 bf).1 8139) 6 = .ok (.iload 7, 2) := zd zm_8139 (by decide +kernel)
theorem d_8139_8 {σ : Nat → Nat} {n0 : Nat} {bf : ab_B} : decode (ab_code (zx σ n0 bf).1 8139) 8 = .ok (.ifCond .le 54, 3) := zd zm_8139 (by decide +kernel)
theorem d_8139_11 {σ : Nat → Nat} {n0 : Nat} {bf : ab_B} : decode (ab_code (zx σ n0 bf).1 8139) 11 = .ok (.iload 6, 2) := zd zm_8139 (by decide +kernel)
theorem d_8139_13 {σ : Nat → Nat} {n0 : Nat} {bf : ab_B} : decode (ab_code (zx σ n0 bf).1 8139) 13 = .ok (.ifCond .ne 30, 3) := zd zm_8139 (by decide +kernel)
theorem d_8139_16 {σ : Nat → Nat} {n0 : Nat} {bf : ab_B} : decode (ab_code (zx σ n0 bf).1 8139) 16 = .ok (.lload_n 2, 1) := zd zm_8139 (by decide +kernel)
theorem d_8139_17 {σ : Nat → Nat} {n0 : Nat} {bf : ab_B} : decode (ab_code (zx σ n0 bf).1 8139) 17 = .ok (.aload_n 0, 1) := zd zm_8139 (by decide +kernel)
theorem d_8139_18 {σ : Nat → Nat} {n0 : Nat} {bf : ab_B} : decode (ab_code (zx σ n0 bf).1 8139) 18 = .ok (.getfield 166, 3) := zd zm_8139 (by decide +kernel)
theorem d_8139_21 {σ : Nat → Nat} {n0 : Nat} {bf : ab_B} : decode (ab_code (zx σ n0 bf).1 8139) 21 = .ok (.iload 7, 2) := zd zm_8139 (by decide +kernel)
theorem d_8139_23 {σ : Nat → Nat} {n0 : Nat} {bf : ab_B} : decode (ab_code (zx σ n0 bf).1 8139) 23 = .ok (.iaload, 1) := zd zm_8139 (by decide +kernel)
theorem d_8139_24 {σ : Nat → Nat} {n0 : Nat} {bf : ab_B} : decode (ab_code (zx σ n0 bf).1 8139) 24 = .ok (.i2l, 1) := zd zm_8139 (by decide +kernel)
theorem d_8139_25 {σ : Nat → Nat} {n0 : Nat} {bf : ab_B} : decode (ab_code (zx σ n0 bf).1 8139) 25 = .ok (.lcmp, 1) := zd zm_8139 (by decide +kernel)
theorem d_8139_26 {σ : Nat → Nat} {n0 : Nat} {bf : ab_B} : decode (ab_code (zx σ n0 bf).1 8139) 26 = .ok (.ifCond .gt 21, 3) := zd zm_8139 (by decide +kernel)
theorem d_8139_29 {σ : Nat → Nat} {n0 : Nat} {bf : ab_B} : decode (ab_code (zx σ n0 bf).1 8139) 29 = .ok (.lload 4, 2) := zd zm_8139 (by decide +kernel)
theorem d_8139_31 {σ : Nat → Nat} {n0 : Nat} {bf : ab_B} : decode (ab_code (zx σ n0 bf).1 8139) 31 = .ok (.aload_n 0, 1) := zd zm_8139 (by decide +kernel)
theorem d_8139_32 {σ : Nat → Nat} {n0 : Nat} {bf : ab_B} : decode (ab_code (zx σ n0 bf).1 8139) 32 = .ok (.getfield 163, 3) := zd zm_8139 (by decide +kernel)
theorem d_8139_35 {σ : Nat → Nat} {n0 : Nat} {bf : ab_B} : decode (ab_code (zx σ n0 bf).1 8139) 35 = .ok (.iload 7, 2) := zd zm_8139 (by decide +kernel)
theorem d_8139_37 {σ : Nat → Nat} {n0 : Nat} {bf : ab_B} : decode (ab_code (zx σ n0 bf).1 8139) 37 = .ok (.iaload, 1) := zd zm_8139 (by decide +kernel)
theorem d_8139_38 {σ : Nat → Nat} {n0 : Nat} {bf : ab_B} : decode (ab_code (zx σ n0 bf).1 8139) 38 = .ok (.i2l, 1) := zd zm_8139 (by decide +kernel)
theorem d_8139_39 {σ : Nat → Nat} {n0 : Nat} {bf : ab_B} : decode (ab_code (zx σ n0 bf).1 8139) 39 = .ok (.lcmp, 1) := zd zm_8139 (by decide +kernel)
theorem d_8139_40 {σ : Nat → Nat} {n0 : Nat} {bf : ab_B} : decode (ab_code (zx σ n0 bf).1 8139) 40 = .ok (.ifCond .lt 7, 3) := zd zm_8139 (by decide +kernel)
theorem d_8139_43 {σ : Nat → Nat} {n0 : Nat} {bf : ab_B} : decode (ab_code (zx σ n0 bf).1 8139) 43 = .ok (.iconst 1, 1) := zd zm_8139 (by decide +kernel)
theorem d_8139_44 {σ : Nat → Nat} {n0 : Nat} {bf : ab_B} : decode (ab_code (zx σ n0 bf).1 8139) 44 = .ok (.goto 4, 3) := zd zm_8139 (by decide +kernel)
theorem d_8139_47 {σ : Nat → Nat} {n0 : Nat} {bf : ab_B} : decode (ab_code (zx σ n0 bf).1 8139) 47 = .ok (.iconst 0, 1) := zd zm_8139 (by decide +kernel)
theorem d_8139_48 {σ : Nat → Nat} {n0 : Nat} {bf : ab_B} : decode (ab_code (zx σ n0 bf).1 8139) 48 = .ok (.istore 6, 2) := zd zm_8139 (by decide +kernel)
theorem d_8139_50 {σ : Nat → Nat} {n0 : Nat} {bf : ab_B} : decode (ab_code (zx σ n0 bf).1 8139) 50 = .ok (.aload_n 0, 1) := zd zm_8139 (by decide +kernel)
theorem d_8139_51 {σ : Nat → Nat} {n0 : Nat} {bf : ab_B} : decode (ab_code (zx σ n0 bf).1 8139) 51 = .ok (.getfield 169, 3) := zd zm_8139 (by decide +kernel)
theorem d_8139_54 {σ : Nat → Nat} {n0 : Nat} {bf : ab_B} : decode (ab_code (zx σ n0 bf).1 8139) 54 = .ok (.iload 7, 2) := zd zm_8139 (by decide +kernel)
theorem d_8139_56 {σ : Nat → Nat} {n0 : Nat} {bf : ab_B} : decode (ab_code (zx σ n0 bf).1 8139) 56 = .ok (.iaload, 1) := zd zm_8139 (by decide +kernel)
theorem d_8139_57 {σ : Nat → Nat} {n0 : Nat} {bf : ab_B} : decode (ab_code (zx σ n0 bf).1 8139) 57 = .ok (.istore 7, 2) := zd zm_8139 (by decide +kernel)
theorem d_8139_59 {σ : Nat → Nat} {n0 : Nat} {bf : ab_B} : decode (ab_code (zx σ n0 bf).1 8139) 59 = .ok (.goto (-53), 3) := zd zm_8139 (by decide +kernel)
theorem d_8139_62 {σ : Nat → Nat} {n0 : Nat} {bf : ab_B} : decode (ab_code (zx σ n0 bf).1 8139) 62 = .ok (.iload 6, 2) := zd zm_8139 (by decide +kernel)
theorem d_8139_64 {σ : Nat → Nat} {n0 : Nat} {bf : ab_B} : decode (ab_code (zx σ n0 bf).1 8139) 64 = .ok (.ireturn, 1) := zd zm_8139 (by decide +kernel)
def w_X9_isTold_48 (X : zs_X) (d : Nat) (p0 : Nat) (p2 : Int64) (p4 : Int64) (p7 : Int32) (q0 : Int32) (S : zs_T) (Q : zs_Q) : Prop :=
  (zs_K S p0 = some (.inl 8) ∧ ∃ b2, (zs_R S 8076 p0) = some b2 ∧ zs_A S b2 0 p7 ∧ zs_U X d 8139 6 [(0, .ref p0), (2, .long p2), (4, .long p4), (6, .int q0), (7, .int (zs_i S b2 p7.toNatClampNeg))] [] S Q)
theorem u_X9_isTold_48 {σ : Nat → Nat} {n0 : Nat} {bf : ab_B} {d : Nat} {p0 : Nat} {p2 : Int64} {p4 : Int64} {p7 : Int32} {q0 : Int32} {S : zs_T} {Q : zs_Q} (hB : zt_B bf) (h : w_X9_isTold_48 (zx σ n0 bf) d p0 p2 p4 p7 q0 S Q) : zs_U (zx σ n0 bf) d 8139 48 [(0, .ref p0), (2, .long p2), (4, .long p4), (7, .int p7)] [.int q0] S Q := by
  unfold w_X9_isTold_48 at h
  refine zu_istore d_8139_48 (zs_lt zq_8139 rfl) ?_
  refine zu_aload_n d_8139_50 rfl (zs_ra _) ?_
  obtain ⟨k1, h⟩ := h
  refine zg_8_169 rfl d_8139_51 k1 ?_
  refine zu_iload d_8139_54 rfl ?_
  obtain ⟨b2, e3, h⟩ := h
  refine zs_stk1 (zs_rfe e3) ?_
  obtain ⟨k4, h⟩ := h
  refine zu_iald (k := 0) d_8139_56 rfl rfl k4 ?_
  refine zu_istore d_8139_57 (zs_lt zq_8139 rfl) ?_
  refine zu_goto (t := 6) d_8139_59 rfl ?_
  exact h.weak ⟨rfl, rfl, rfl, rfl, rfl, trivial⟩
def w_X9_isTold_43 (X : zs_X) (d : Nat) (p0 : Nat) (p2 : Int64) (p4 : Int64) (p7 : Int32) (S : zs_T) (Q : zs_Q) : Prop :=
  (w_X9_isTold_48 X d p0 p2 p4 p7 (1 : Int32) S Q)
theorem u_X9_isTold_43 {σ : Nat → Nat} {n0 : Nat} {bf : ab_B} {d : Nat} {p0 : Nat} {p2 : Int64} {p4 : Int64} {p7 : Int32} {S : zs_T} {Q : zs_Q} (hB : zt_B bf) (h : w_X9_isTold_43 (zx σ n0 bf) d p0 p2 p4 p7 S Q) : zs_U (zx σ n0 bf) d 8139 43 [(0, .ref p0), (2, .long p2), (4, .long p4), (7, .int p7)] [] S Q := by
  unfold w_X9_isTold_43 at h
  refine zu_iconst d_8139_43 zi_1 ?_
  refine zu_goto (t := 48) d_8139_44 rfl ?_
  exact (u_X9_isTold_48 hB h).weak ⟨rfl, rfl, rfl, rfl, trivial⟩
def w_X9_isTold_47 (X : zs_X) (d : Nat) (p0 : Nat) (p2 : Int64) (p4 : Int64) (p7 : Int32) (S : zs_T) (Q : zs_Q) : Prop :=
  (w_X9_isTold_48 X d p0 p2 p4 p7 (0 : Int32) S Q)
theorem u_X9_isTold_47 {σ : Nat → Nat} {n0 : Nat} {bf : ab_B} {d : Nat} {p0 : Nat} {p2 : Int64} {p4 : Int64} {p7 : Int32} {S : zs_T} {Q : zs_Q} (hB : zt_B bf) (h : w_X9_isTold_47 (zx σ n0 bf) d p0 p2 p4 p7 S Q) : zs_U (zx σ n0 bf) d 8139 47 [(0, .ref p0), (2, .long p2), (4, .long p4), (7, .int p7)] [] S Q := by
  unfold w_X9_isTold_47 at h
  refine zu_iconst d_8139_47 zi_0 ?_
  exact (u_X9_isTold_48 hB h).weak ⟨rfl, rfl, rfl, rfl, trivial⟩
def w_X9_isTold_6 (X : zs_X) (d : Nat) (p0 : Nat) (p2 : Int64) (p4 : Int64) (p6 : Int32) (p7 : Int32) (S : zs_T) (Q : zs_Q) : Prop :=
  (((p7 ≤ 0 → (zs_b p6 ∧ Q (.returned (some (.int p6))) S)) ∧ (¬ (p7 ≤ 0) → (((¬ p6 = 0 → w_X9_isTold_43 X d p0 p2 p4 p7 S Q) ∧ (¬ (¬ p6 = 0) → (zs_K S p0 = some (.inl 8) ∧ ∃ b5, (zs_R S 8075 p0) = some b5 ∧ zs_A S b5 0 p7 ∧ (((((zs_i S b5 p7.toNatClampNeg)).toInt64) < p2 → w_X9_isTold_47 X d p0 p2 p4 p7 S Q) ∧ (¬ ((((zs_i S b5 p7.toNatClampNeg)).toInt64) < p2) → (∃ b9, (zs_R S 8074 p0) = some b9 ∧ zs_A S b9 0 p7 ∧ ((p4 < (((zs_i S b9 p7.toNatClampNeg)).toInt64) → w_X9_isTold_47 X d p0 p2 p4 p7 S Q) ∧ (¬ (p4 < (((zs_i S b9 p7.toNatClampNeg)).toInt64)) → w_X9_isTold_43 X d p0 p2 p4 p7 S Q))))))))))))
theorem u_X9_isTold_6 {σ : Nat → Nat} {n0 : Nat} {bf : ab_B} {d : Nat} {p0 : Nat} {p2 : Int64} {p4 : Int64} {p6 : Int32} {p7 : Int32} {S : zs_T} {Q : zs_Q} (hB : zt_B bf) (h : w_X9_isTold_6 (zx σ n0 bf) d p0 p2 p4 p6 p7 S Q) : zs_U (zx σ n0 bf) d 8139 6 [(0, .ref p0), (2, .long p2), (4, .long p4), (6, .int p6), (7, .int p7)] [] S Q := by
  unfold w_X9_isTold_6 at h
  refine zu_iload d_8139_6 rfl ?_
  refine zu_ifle (t := 62) d_8139_8 rfl (fun c1 => ?_) (fun c1 => ?_)
  · have h := h.1 c1
    refine zu_iload d_8139_62 rfl ?_
    obtain ⟨k2, h⟩ := h
    exact zu_iret d_8139_64 zr_8139 (zs_b_n k2) h
  · have h := h.2 c1
    refine zu_iload d_8139_11 rfl ?_
    refine zu_ifne (t := 43) d_8139_13 rfl (fun c3 => ?_) (fun c3 => ?_)
    · have h := h.1 c3
      exact (u_X9_isTold_43 hB h).weak ⟨rfl, rfl, rfl, rfl, trivial⟩
    · have h := h.2 c3
      refine zu_lload_n d_8139_16 rfl ?_
      refine zu_aload_n d_8139_17 rfl (zs_ra _) ?_
      obtain ⟨k4, h⟩ := h
      refine zg_8_166 rfl d_8139_18 k4 ?_
      refine zu_iload d_8139_21 rfl ?_
      obtain ⟨b5, e6, h⟩ := h
      refine zs_stk1 (zs_rfe e6) ?_
      obtain ⟨k7, h⟩ := h
      refine zu_iald (k := 0) d_8139_23 rfl rfl k7 ?_
      refine zu_stk d_8139_24 rfl rfl ?_
      refine zu_lgt (t := 47) d_8139_25 d_8139_26 rfl (fun c8 => ?_) (fun c8 => ?_)
      · have h := h.1 c8
        exact (u_X9_isTold_47 hB h).weak ⟨rfl, rfl, rfl, rfl, trivial⟩
      · have h := h.2 c8
        refine zu_lload d_8139_29 rfl ?_
        refine zu_aload_n d_8139_31 rfl (zs_ra _) ?_
        refine zg_8_163 rfl d_8139_32 k4 ?_
        refine zu_iload d_8139_35 rfl ?_
        obtain ⟨b9, e10, h⟩ := h
        refine zs_stk1 (zs_rfe e10) ?_
        obtain ⟨k11, h⟩ := h
        refine zu_iald (k := 0) d_8139_37 rfl rfl k11 ?_
        refine zu_stk d_8139_38 rfl rfl ?_
        refine zu_llt (t := 47) d_8139_39 d_8139_40 rfl (fun c12 => ?_) (fun c12 => ?_)
        · have h := h.1 c12
          exact (u_X9_isTold_47 hB h).weak ⟨rfl, rfl, rfl, rfl, trivial⟩
        · have h := h.2 c12
          exact (u_X9_isTold_43 hB h).weak ⟨rfl, rfl, rfl, rfl, trivial⟩
def w_X9_isTold (X : zs_X) (d : Nat) (p0 : Nat) (p1 : Int32) (p2 : Int64) (p4 : Int64) (S : zs_T) (Q : zs_Q) : Prop :=
  (zs_U X d 8139 6 [(0, .ref p0), (2, .long p2), (4, .long p4), (6, .int (0 : Int32)), (7, .int p1)] [] S Q)
theorem u_X9_isTold {σ : Nat → Nat} {n0 : Nat} {bf : ab_B} {d : Nat} {p0 : Nat} {p1 : Int32} {p2 : Int64} {p4 : Int64} {S : zs_T} {Q : zs_Q} (hB : zt_B bf) (hd : 1 ≤ d) (h : w_X9_isTold (zx σ n0 bf) (d - 1) p0 p1 p2 p4 S Q) : zs_C (zx σ n0 bf) d 8139 [.ref p0, .int p1, .long p2, .long p4] S Q := by
  have hL : lv_args 0 [.ref p0, .int p1, .long p2, .long p4] = [(0, .ref p0), (1, .int p1), (2, .long p2), (4, .long p4)] := rfl
  refine zs_C.of1 (hB.2 8139 (by decide) (by decide)) hd (by rw [hL]; exact zs_sub_self _ (by exact ⟨rfl, rfl, rfl, rfl, trivial⟩)) ?_
  rw [hL]
  clear hL
  unfold w_X9_isTold at h
  refine zu_iconst d_8139_0 zi_0 ?_
  refine zu_istore d_8139_1 (zs_lt zq_8139 rfl) ?_
  refine zu_iload_n d_8139_3 rfl ?_
  refine zu_istore d_8139_4 (zs_lt zq_8139 rfl) ?_
  exact h.weak ⟨rfl, rfl, rfl, rfl, rfl, trivial⟩
/-! SchemaPascalModel.variantDone(II)V -/
theorem zm_8140 {σ : Nat → Nat} {n0 : Nat} {bf : ab_B} : ab_code (zx σ n0 bf).1 8140 = prog_17_method_132_code := rfl
theorem zq_8140 {σ : Nat → Nat} {n0 : Nat} {bf : ab_B} : ab_maxL (zx σ n0 bf).1 8140 = 3 := rfl
theorem zr_8140 {σ : Nat → Nat} {n0 : Nat} {bf : ab_B} : ab_ret (zx σ n0 bf).1 8140 = (Option.none : Option Jvm.ClassFile.FieldType) := rfl
theorem d_8140_0 {σ : Nat → Nat} {n0 : Nat} {bf : ab_B} : decode (ab_code (zx σ n0 bf).1 8140) 0 = .ok (.aload_n 0, 1) := zd zm_8140 (by decide +kernel)
theorem d_8140_1 {σ : Nat → Nat} {n0 : Nat} {bf : ab_B} : decode (ab_code (zx σ n0 bf).1 8140) 1 = .ok (.bipush 13, 2) := zd zm_8140 (by decide +kernel)
theorem d_8140_3 {σ : Nat → Nat} {n0 : Nat} {bf : ab_B} : decode (ab_code (zx σ n0 bf).1 8140) 3 = .ok (.invokevirtual 535, 3) := zd zm_8140 (by decide +kernel)
theorem d_8140_6 {σ : Nat → Nat} {n0 : Nat} {bf : ab_B} : decode (ab_code (zx σ n0 bf).1 8140) 6 = .ok (.ifCond .eq 41, 3) := zd zm_8140 (by decide +kernel)
theorem d_8140_9 {σ : Nat → Nat} {n0 : Nat} {bf : ab_B} : decode (ab_code (zx σ n0 bf).1 8140) 9 = .ok (.aload_n 0, 1) := zd zm_8140 (by decide +kernel)
theorem d_8140_10 {σ : Nat → Nat} {n0 : Nat} {bf : ab_B} : decode (ab_code (zx σ n0 bf).1 8140) 10 = .ok (.invokevirtual 538, 3) := zd zm_8140 (by decide +kernel)
theorem d_8140_13 {σ : Nat → Nat} {n0 : Nat} {bf : ab_B} : decode (ab_code (zx σ n0 bf).1 8140) 13 = .ok (.aload_n 0, 1) := zd zm_8140 (by decide +kernel)
theorem d_8140_14 {σ : Nat → Nat} {n0 : Nat} {bf : ab_B} : decode (ab_code (zx σ n0 bf).1 8140) 14 = .ok (.getfield 444, 3) := zd zm_8140 (by decide +kernel)
theorem d_8140_17 {σ : Nat → Nat} {n0 : Nat} {bf : ab_B} : decode (ab_code (zx σ n0 bf).1 8140) 17 = .ok (.ifCond .ne 30, 3) := zd zm_8140 (by decide +kernel)
theorem d_8140_20 {σ : Nat → Nat} {n0 : Nat} {bf : ab_B} : decode (ab_code (zx σ n0 bf).1 8140) 20 = .ok (.aload_n 0, 1) := zd zm_8140 (by decide +kernel)
theorem d_8140_21 {σ : Nat → Nat} {n0 : Nat} {bf : ab_B} : decode (ab_code (zx σ n0 bf).1 8140) 21 = .ok (.bipush 9, 2) := zd zm_8140 (by decide +kernel)
theorem d_8140_23 {σ : Nat → Nat} {n0 : Nat} {bf : ab_B} : decode (ab_code (zx σ n0 bf).1 8140) 23 = .ok (.invokevirtual 544, 3) := zd zm_8140 (by decide +kernel)
theorem d_8140_26 {σ : Nat → Nat} {n0 : Nat} {bf : ab_B} : decode (ab_code (zx σ n0 bf).1 8140) 26 = .ok (.ifCond .ne 21, 3) := zd zm_8140 (by decide +kernel)
theorem d_8140_29 {σ : Nat → Nat} {n0 : Nat} {bf : ab_B} : decode (ab_code (zx σ n0 bf).1 8140) 29 = .ok (.aload_n 0, 1) := zd zm_8140 (by decide +kernel)
theorem d_8140_30 {σ : Nat → Nat} {n0 : Nat} {bf : ab_B} : decode (ab_code (zx σ n0 bf).1 8140) 30 = .ok (.bipush 9, 2) := zd zm_8140 (by decide +kernel)
theorem d_8140_32 {σ : Nat → Nat} {n0 : Nat} {bf : ab_B} : decode (ab_code (zx σ n0 bf).1 8140) 32 = .ok (.invokevirtual 535, 3) := zd zm_8140 (by decide +kernel)
theorem d_8140_35 {σ : Nat → Nat} {n0 : Nat} {bf : ab_B} : decode (ab_code (zx σ n0 bf).1 8140) 35 = .ok (.ifCond .ne 12, 3) := zd zm_8140 (by decide +kernel)
theorem d_8140_38 {σ : Nat → Nat} {n0 : Nat} {bf : ab_B} : decode (ab_code (zx σ n0 bf).1 8140) 38 = .ok (.aload_n 0, 1) := zd zm_8140 (by decide +kernel)
theorem d_8140_39 {σ : Nat → Nat} {n0 : Nat} {bf : ab_B} : decode (ab_code (zx σ n0 bf).1 8140) 39 = .ok (.bipush 41, 2) := zd zm_8140 (by decide +kernel)
theorem d_8140_41 {σ : Nat → Nat} {n0 : Nat} {bf : ab_B} : decode (ab_code (zx σ n0 bf).1 8140) 41 = .ok (.iload_n 1, 1) := zd zm_8140 (by decide +kernel)
theorem d_8140_42 {σ : Nat → Nat} {n0 : Nat} {bf : ab_B} : decode (ab_code (zx σ n0 bf).1 8140) 42 = .ok (.iload_n 2, 1) := zd zm_8140 (by decide +kernel)
theorem d_8140_43 {σ : Nat → Nat} {n0 : Nat} {bf : ab_B} : decode (ab_code (zx σ n0 bf).1 8140) 43 = .ok (.iconst 0, 1) := zd zm_8140 (by decide +kernel)
theorem d_8140_44 {σ : Nat → Nat} {n0 : Nat} {bf : ab_B} : decode (ab_code (zx σ n0 bf).1 8140) 44 = .ok (.invokevirtual 649, 3) := zd zm_8140 (by decide +kernel)
theorem d_8140_47 {σ : Nat → Nat} {n0 : Nat} {bf : ab_B} : decode (ab_code (zx σ n0 bf).1 8140) 47 = .ok (.return_, 1) := zd zm_8140 (by decide +kernel)
def w_X9_variantDone_47 (X : zs_X) (d : Nat)  (S : zs_T) (Q : zs_Q) : Prop :=
  (Q (.returned none) S)
theorem u_X9_variantDone_47 {σ : Nat → Nat} {n0 : Nat} {bf : ab_B} {d : Nat}  {S : zs_T} {Q : zs_Q} (hB : zt_B bf) (h : w_X9_variantDone_47 (zx σ n0 bf) d  S Q) : zs_U (zx σ n0 bf) d 8140 47 [] [] S Q := by
  unfold w_X9_variantDone_47 at h
  exact zu_vret d_8140_47 zr_8140 h
def w_X9_variantDone_38 (X : zs_X) (d : Nat) (p0 : Nat) (p1 : Int32) (p2 : Int32) (S : zs_T) (Q : zs_Q) : Prop :=
  (zs_K S p0 = some (.inl 8) ∧ zs_C X d 8030 [.ref p0, .int (41 : Int32), .int p1, .int p2, .int (0 : Int32)] S (zs_kV (fun S2 => w_X9_variantDone_47 X d  S2 Q) Q))
theorem u_X9_variantDone_38 {σ : Nat → Nat} {n0 : Nat} {bf : ab_B} {d : Nat} {p0 : Nat} {p1 : Int32} {p2 : Int32} {S : zs_T} {Q : zs_Q} (hB : zt_B bf) (h : w_X9_variantDone_38 (zx σ n0 bf) d p0 p1 p2 S Q) : zs_U (zx σ n0 bf) d 8140 38 [(0, .ref p0), (1, .int p1), (2, .int p2)] [] S Q := by
  unfold w_X9_variantDone_38 at h
  refine zu_aload_n d_8140_38 rfl (zs_ra _) ?_
  refine zu_bipush d_8140_39 zj_41 ?_
  refine zu_iload_n d_8140_41 rfl ?_
  refine zu_iload_n d_8140_42 rfl ?_
  refine zu_iconst d_8140_43 zi_0 ?_
  obtain ⟨k1, h⟩ := h
  refine zc_8_649 (x0 := (41 : Int32)) (x1 := p1) (x2 := p2) (x3 := (0 : Int32)) hB rfl k1 d_8140_44 (Nat.le_of_ble_eq_true rfl) h (fun S2 h => ?_)
  exact (u_X9_variantDone_47 hB h).weak trivial
def w_X9_variantDone (X : zs_X) (d : Nat) (p0 : Nat) (p1 : Int32) (p2 : Int32) (S : zs_T) (Q : zs_Q) : Prop :=
  (zs_K S p0 = some (.inl 8) ∧ zs_C X d 8029 [.ref p0, .int (13 : Int32)] S (zs_kI (fun v3 S2 => (((v3 = 0 → w_X9_variantDone_47 X d  S2 Q) ∧ (¬ (v3 = 0) → (zs_K S2 p0 = some (.inl 8) ∧ zs_C X d 8014 [.ref p0] S2 (zs_kV (fun S6 => (zs_K S6 p0 = some (.inl 8) ∧ ((¬ (zs_I S6 8010 p0) = 0 → w_X9_variantDone_47 X d  S6 Q) ∧ (¬ (¬ (zs_I S6 8010 p0) = 0) → (zs_C X d 8026 [.ref p0, .int (9 : Int32)] S6 (zs_kI (fun v11 S10 => (((¬ v11 = 0 → w_X9_variantDone_47 X d  S10 Q) ∧ (¬ (¬ v11 = 0) → (zs_K S10 p0 = some (.inl 8) ∧ zs_C X d 8029 [.ref p0, .int (9 : Int32)] S10 (zs_kI (fun v15 S14 => (((¬ v15 = 0 → w_X9_variantDone_47 X d  S14 Q) ∧ (¬ (¬ v15 = 0) → w_X9_variantDone_38 X d p0 p1 p2 S14 Q)))) Q)))))) Q)))))) Q)))))) Q))
theorem u_X9_variantDone {σ : Nat → Nat} {n0 : Nat} {bf : ab_B} {d : Nat} {p0 : Nat} {p1 : Int32} {p2 : Int32} {S : zs_T} {Q : zs_Q} (hB : zt_B bf) (hd : 1 ≤ d) (h : w_X9_variantDone (zx σ n0 bf) (d - 1) p0 p1 p2 S Q) : zs_C (zx σ n0 bf) d 8140 [.ref p0, .int p1, .int p2] S Q := by
  have hL : lv_args 0 [.ref p0, .int p1, .int p2] = [(0, .ref p0), (1, .int p1), (2, .int p2)] := rfl
  refine zs_C.of1 (hB.2 8140 (by decide) (by decide)) hd (by rw [hL]; exact zs_sub_self _ (by exact ⟨rfl, rfl, rfl, trivial⟩)) ?_
  rw [hL]
  clear hL
  unfold w_X9_variantDone at h
  refine zu_aload_n d_8140_0 rfl (zs_ra _) ?_
  refine zu_bipush d_8140_1 zj_13 ?_
  obtain ⟨k1, h⟩ := h
  refine zc_8_535 (x0 := (13 : Int32)) hB rfl k1 d_8140_3 (Nat.le_of_ble_eq_true rfl) h (fun v3 S2 h => ?_)
  refine zu_ifeq (t := 47) d_8140_6 rfl (fun c4 => ?_) (fun c4 => ?_)
  · have h := h.1 c4
    exact (u_X9_variantDone_47 hB h).weak trivial
  · have h := h.2 c4
    refine zu_aload_n d_8140_9 rfl (zs_ra _) ?_
    obtain ⟨k5, h⟩ := h
    refine zc_8_538  hB rfl k5 d_8140_10 (Nat.le_of_ble_eq_true rfl) h (fun S6 h => ?_)
    refine zu_aload_n d_8140_13 rfl (zs_ra _) ?_
    obtain ⟨k8, h⟩ := h
    refine zg_8_444 rfl d_8140_14 k8 ?_
    refine zu_ifne (t := 47) d_8140_17 rfl (fun c9 => ?_) (fun c9 => ?_)
    · have h := h.1 c9
      exact (u_X9_variantDone_47 hB h).weak trivial
    · have h := h.2 c9
      refine zu_aload_n d_8140_20 rfl (zs_ra _) ?_
      refine zu_bipush d_8140_21 zj_9 ?_
      refine zc_8_544 (x0 := (9 : Int32)) hB rfl k8 d_8140_23 (Nat.le_of_ble_eq_true rfl) h (fun v11 S10 h => ?_)
      refine zu_ifne (t := 47) d_8140_26 rfl (fun c12 => ?_) (fun c12 => ?_)
      · have h := h.1 c12
        exact (u_X9_variantDone_47 hB h).weak trivial
      · have h := h.2 c12
        refine zu_aload_n d_8140_29 rfl (zs_ra _) ?_
        refine zu_bipush d_8140_30 zj_9 ?_
        obtain ⟨k13, h⟩ := h
        refine zc_8_535 (x0 := (9 : Int32)) hB rfl k13 d_8140_32 (Nat.le_of_ble_eq_true rfl) h (fun v15 S14 h => ?_)
        refine zu_ifne (t := 47) d_8140_35 rfl (fun c16 => ?_) (fun c16 => ?_)
        · have h := h.1 c16
          exact (u_X9_variantDone_47 hB h).weak trivial
        · have h := h.2 c16
          exact (u_X9_variantDone_38 hB h).weak ⟨rfl, rfl, rfl, trivial⟩
