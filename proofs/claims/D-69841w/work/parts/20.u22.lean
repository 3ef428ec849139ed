/-! printed by gen_all.py: what the methods compute -/
set_option maxRecDepth 100000
/-! SchemaPascalModel.knownStatement(II)V -/
theorem zm_8170 {σ : Nat → Nat} {n0 : Nat} {bf : ab_B} : ab_code (zx σ n0 bf).1 8170 = prog_17_method_187_code := rfl
theorem zq_8170 {σ : Nat → Nat} {n0 : Nat} {bf : ab_B} : ab_maxL (zx σ n0 bf).1 8170 = 4 := rfl
theorem zr_8170 {σ : Nat → Nat} {n0 : Nat} {bf : ab_B} : ab_ret (zx σ n0 bf).1 8170 = (Option.none : Option Jvm.ClassFile.FieldType) := rfl
theorem d_8170_0 {σ : Nat → Nat} {n0 : Nat} {bf : ab_B} : decode (ab_code (zx σ n0 bf).1 8170) 0 = .ok (.aload_n 0, 1) := zd zm_8170 (by decide +kernel)
theorem d_8170_1 {σ : Nat → Nat} {n0 : Nat} {bf : ab_B} : decode (ab_code (zx σ n0 bf).1 8170) 1 = .ok (.getfield 444, 3) := zd zm_8170 (by decide +kernel)
theorem d_8170_4 {σ : Nat → Nat} {n0 : Nat} {bf : ab_B} : decode (ab_code (zx σ n0 bf).1 8170) 4 = .ok (.ifCond .le 4, 3) := zd zm_8170 (by decide +kernel)
theorem d_8170_7 {σ : Nat → Nat} {n0 : Nat} {bf : ab_B} : decode (ab_code (zx σ n0 bf).1 8170) 7 = .ok (.return_, 1) := zd zm_8170 (by decide +kernel)
theorem d_8170_8 {σ : Nat → Nat} {n0 : Nat} {bf : ab_B} : decode (ab_code (zx σ n0 bf).1 8170) 8 = .ok (.iload_n 1, 1) := zd zm_8170 (by decide +kernel)
theorem d_8170_9 {σ : Nat → Nat} {n0 : Nat} {bf : ab_B} : decode (ab_code (zx σ n0 bf).1 8170) 9 = .ok (.bipush 24, 2) := zd zm_8170 (by decide +kernel)
theorem d_8170_11 {σ : Nat → Nat} {n0 : Nat} {bf : ab_B} : decode (ab_code (zx σ n0 bf).1 8170) 11 = .ok (.if_icmp .ne 18, 3) := zd zm_8170 (by decide +kernel)
theorem d_8170_14 {σ : Nat → Nat} {n0 : Nat} {bf : ab_B} : decode (ab_code (zx σ n0 bf).1 8170) 14 = .ok (.aload_n 0, 1) := zd zm_8170 (by decide +kernel)
theorem d_8170_15 {σ : Nat → Nat} {n0 : Nat} {bf : ab_B} : decode (ab_code (zx σ n0 bf).1 8170) 15 = .ok (.bipush 89, 2) := zd zm_8170 (by decide +kernel)
theorem d_8170_17 {σ : Nat → Nat} {n0 : Nat} {bf : ab_B} : decode (ab_code (zx σ n0 bf).1 8170) 17 = .ok (.iconst 0, 1) := zd zm_8170 (by decide +kernel)
theorem d_8170_18 {σ : Nat → Nat} {n0 : Nat} {bf : ab_B} : decode (ab_code (zx σ n0 bf).1 8170) 18 = .ok (.iconst 0, 1) := zd zm_8170 (by decide +kernel)
theorem d_8170_19 {σ : Nat → Nat} {n0 : Nat} {bf : ab_B} : decode (ab_code (zx σ n0 bf).1 8170) 19 = .ok (.iload_n 2, 1) := zd zm_8170 (by decide +kernel)
theorem d_8170_20 {σ : Nat → Nat} {n0 : Nat} {bf : ab_B} : decode (ab_code (zx σ n0 bf).1 8170) 20 = .ok (.invokevirtual 656, 3) := zd zm_8170 (by decide +kernel)
theorem d_8170_23 {σ : Nat → Nat} {n0 : Nat} {bf : ab_B} : decode (ab_code (zx σ n0 bf).1 8170) 23 = .ok (.istore_n 3, 1) := zd zm_8170 (by decide +kernel)
theorem d_8170_24 {σ : Nat → Nat} {n0 : Nat} {bf : ab_B} : decode (ab_code (zx σ n0 bf).1 8170) 24 = .ok (.aload_n 0, 1) := zd zm_8170 (by decide +kernel)
theorem d_8170_25 {σ : Nat → Nat} {n0 : Nat} {bf : ab_B} : decode (ab_code (zx σ n0 bf).1 8170) 25 = .ok (.invokevirtual 749, 3) := zd zm_8170 (by decide +kernel)
theorem d_8170_28 {σ : Nat → Nat} {n0 : Nat} {bf : ab_B} : decode (ab_code (zx σ n0 bf).1 8170) 28 = .ok (.return_, 1) := zd zm_8170 (by decide +kernel)
theorem d_8170_29 {σ : Nat → Nat} {n0 : Nat} {bf : ab_B} : decode (ab_code (zx σ n0 bf).1 8170) 29 = .ok (.aload_n 0, 1) := zd zm_8170 (by decide +kernel)
theorem d_8170_30 {σ : Nat → Nat} {n0 : Nat} {bf : ab_B} : decode (ab_code (zx σ n0 bf).1 8170) 30 = .ok (.bipush 8, 2) := zd zm_8170 (by decide +kernel)
theorem d_8170_32 {σ : Nat → Nat} {n0 : Nat} {bf : ab_B} : decode (ab_code (zx σ n0 bf).1 8170) 32 = .ok (.invokevirtual 535, 3) := zd zm_8170 (by decide +kernel)
theorem d_8170_35 {σ : Nat → Nat} {n0 : Nat} {bf : ab_B} : decode (ab_code (zx σ n0 bf).1 8170) 35 = .ok (.ifCond .ne 28, 3) := zd zm_8170 (by decide +kernel)
theorem d_8170_38 {σ : Nat → Nat} {n0 : Nat} {bf : ab_B} : decode (ab_code (zx σ n0 bf).1 8170) 38 = .ok (.iload_n 1, 1) := zd zm_8170 (by decide +kernel)
theorem d_8170_39 {σ : Nat → Nat} {n0 : Nat} {bf : ab_B} : decode (ab_code (zx σ n0 bf).1 8170) 39 = .ok (.bipush 23, 2) := zd zm_8170 (by decide +kernel)
theorem d_8170_41 {σ : Nat → Nat} {n0 : Nat} {bf : ab_B} : decode (ab_code (zx σ n0 bf).1 8170) 41 = .ok (.if_icmp .ne 16, 3) := zd zm_8170 (by decide +kernel)
theorem d_8170_44 {σ : Nat → Nat} {n0 : Nat} {bf : ab_B} : decode (ab_code (zx σ n0 bf).1 8170) 44 = .ok (.aload_n 0, 1) := zd zm_8170 (by decide +kernel)
theorem d_8170_45 {σ : Nat → Nat} {n0 : Nat} {bf : ab_B} : decode (ab_code (zx σ n0 bf).1 8170) 45 = .ok (.bipush 98, 2) := zd zm_8170 (by decide +kernel)
theorem d_8170_47 {σ : Nat → Nat} {n0 : Nat} {bf : ab_B} : decode (ab_code (zx σ n0 bf).1 8170) 47 = .ok (.iconst 0, 1) := zd zm_8170 (by decide +kernel)
theorem d_8170_48 {σ : Nat → Nat} {n0 : Nat} {bf : ab_B} : decode (ab_code (zx σ n0 bf).1 8170) 48 = .ok (.iconst 0, 1) := zd zm_8170 (by decide +kernel)
theorem d_8170_49 {σ : Nat → Nat} {n0 : Nat} {bf : ab_B} : decode (ab_code (zx σ n0 bf).1 8170) 49 = .ok (.iload_n 2, 1) := zd zm_8170 (by decide +kernel)
theorem d_8170_50 {σ : Nat → Nat} {n0 : Nat} {bf : ab_B} : decode (ab_code (zx σ n0 bf).1 8170) 50 = .ok (.invokevirtual 656, 3) := zd zm_8170 (by decide +kernel)
theorem d_8170_53 {σ : Nat → Nat} {n0 : Nat} {bf : ab_B} : decode (ab_code (zx σ n0 bf).1 8170) 53 = .ok (.istore_n 3, 1) := zd zm_8170 (by decide +kernel)
theorem d_8170_54 {σ : Nat → Nat} {n0 : Nat} {bf : ab_B} : decode (ab_code (zx σ n0 bf).1 8170) 54 = .ok (.goto 8, 3) := zd zm_8170 (by decide +kernel)
theorem d_8170_57 {σ : Nat → Nat} {n0 : Nat} {bf : ab_B} : decode (ab_code (zx σ n0 bf).1 8170) 57 = .ok (.aload_n 0, 1) := zd zm_8170 (by decide +kernel)
theorem d_8170_58 {σ : Nat → Nat} {n0 : Nat} {bf : ab_B} : decode (ab_code (zx σ n0 bf).1 8170) 58 = .ok (.iconst 5, 1) := zd zm_8170 (by decide +kernel)
theorem d_8170_59 {σ : Nat → Nat} {n0 : Nat} {bf : ab_B} : decode (ab_code (zx σ n0 bf).1 8170) 59 = .ok (.invokevirtual 541, 3) := zd zm_8170 (by decide +kernel)
theorem d_8170_62 {σ : Nat → Nat} {n0 : Nat} {bf : ab_B} : decode (ab_code (zx σ n0 bf).1 8170) 62 = .ok (.return_, 1) := zd zm_8170 (by decide +kernel)
theorem d_8170_63 {σ : Nat → Nat} {n0 : Nat} {bf : ab_B} : decode (ab_code (zx σ n0 bf).1 8170) 63 = .ok (.aload_n 0, 1) := zd zm_8170 (by decide +kernel)
theorem d_8170_64 {σ : Nat → Nat} {n0 : Nat} {bf : ab_B} : decode (ab_code (zx σ n0 bf).1 8170) 64 = .ok (.sipush 129, 3) := zd zm_8170 (by decide +kernel)
theorem d_8170_67 {σ : Nat → Nat} {n0 : Nat} {bf : ab_B} : decode (ab_code (zx σ n0 bf).1 8170) 67 = .ok (.iload_n 1, 1) := zd zm_8170 (by decide +kernel)
theorem d_8170_68 {σ : Nat → Nat} {n0 : Nat} {bf : ab_B} : decode (ab_code (zx σ n0 bf).1 8170) 68 = .ok (.iload_n 2, 1) := zd zm_8170 (by decide +kernel)
theorem d_8170_69 {σ : Nat → Nat} {n0 : Nat} {bf : ab_B} : decode (ab_code (zx σ n0 bf).1 8170) 69 = .ok (.iconst 0, 1) := zd zm_8170 (by decide +kernel)
theorem d_8170_70 {σ : Nat → Nat} {n0 : Nat} {bf : ab_B} : decode (ab_code (zx σ n0 bf).1 8170) 70 = .ok (.invokevirtual 649, 3) := zd zm_8170 (by decide +kernel)
theorem d_8170_73 {σ : Nat → Nat} {n0 : Nat} {bf : ab_B} : decode (ab_code (zx σ n0 bf).1 8170) 73 = .ok (.aload_n 0, 1) := zd zm_8170 (by decide +kernel)
theorem d_8170_74 {σ : Nat → Nat} {n0 : Nat} {bf : ab_B} : decode (ab_code (zx σ n0 bf).1 8170) 74 = .ok (.invokevirtual 706, 3) := zd zm_8170 (by decide +kernel)
theorem d_8170_77 {σ : Nat → Nat} {n0 : Nat} {bf : ab_B} : decode (ab_code (zx σ n0 bf).1 8170) 77 = .ok (.aload_n 0, 1) := zd zm_8170 (by decide +kernel)
theorem d_8170_78 {σ : Nat → Nat} {n0 : Nat} {bf : ab_B} : decode (ab_code (zx σ n0 bf).1 8170) 78 = .ok (.invokevirtual 538, 3) := zd zm_8170 (by decide +kernel)
theorem d_8170_81 {σ : Nat → Nat} {n0 : Nat} {bf : ab_B} : decode (ab_code (zx σ n0 bf).1 8170) 81 = .ok (.aload_n 0, 1) := zd zm_8170 (by decide +kernel)
theorem d_8170_82 {σ : Nat → Nat} {n0 : Nat} {bf : ab_B} : decode (ab_code (zx σ n0 bf).1 8170) 82 = .ok (.iload_n 1, 1) := zd zm_8170 (by decide +kernel)
theorem d_8170_83 {σ : Nat → Nat} {n0 : Nat} {bf : ab_B} : decode (ab_code (zx σ n0 bf).1 8170) 83 = .ok (.bipush 19, 2) := zd zm_8170 (by decide +kernel)
theorem d_8170_85 {σ : Nat → Nat} {n0 : Nat} {bf : ab_B} : decode (ab_code (zx σ n0 bf).1 8170) 85 = .ok (.if_icmp .ne 8, 3) := zd zm_8170 (by decide +kernel)
theorem d_8170_88 {σ : Nat → Nat} {n0 : Nat} {bf : ab_B} : decode (ab_code (zx σ n0 bf).1 8170) 88 = .ok (.bipush 124, 2) := zd zm_8170 (by decide +kernel)
theorem d_8170_90 {σ : Nat → Nat} {n0 : Nat} {bf : ab_B} : decode (ab_code (zx σ n0 bf).1 8170) 90 = .ok (.goto 28, 3) := zd zm_8170 (by decide +kernel)
theorem d_8170_93 {σ : Nat → Nat} {n0 : Nat} {bf : ab_B} : decode (ab_code (zx σ n0 bf).1 8170) 93 = .ok (.iload_n 1, 1) := zd zm_8170 (by decide +kernel)
theorem d_8170_94 {σ : Nat → Nat} {n0 : Nat} {bf : ab_B} : decode (ab_code (zx σ n0 bf).1 8170) 94 = .ok (.bipush 20, 2) := zd zm_8170 (by decide +kernel)
theorem d_8170_96 {σ : Nat → Nat} {n0 : Nat} {bf : ab_B} : decode (ab_code (zx σ n0 bf).1 8170) 96 = .ok (.if_icmp .ne 8, 3) := zd zm_8170 (by decide +kernel)
theorem d_8170_99 {σ : Nat → Nat} {n0 : Nat} {bf : ab_B} : decode (ab_code (zx σ n0 bf).1 8170) 99 = .ok (.bipush 126, 2) := zd zm_8170 (by decide +kernel)
theorem d_8170_101 {σ : Nat → Nat} {n0 : Nat} {bf : ab_B} : decode (ab_code (zx σ n0 bf).1 8170) 101 = .ok (.goto 17, 3) := zd zm_8170 (by decide +kernel)
theorem d_8170_104 {σ : Nat → Nat} {n0 : Nat} {bf : ab_B} : decode (ab_code (zx σ n0 bf).1 8170) 104 = .ok (.iload_n 1, 1) := zd zm_8170 (by decide +kernel)
theorem d_8170_105 {σ : Nat → Nat} {n0 : Nat} {bf : ab_B} : decode (ab_code (zx σ n0 bf).1 8170) 105 = .ok (.bipush 21, 2) := zd zm_8170 (by decide +kernel)
theorem d_8170_107 {σ : Nat → Nat} {n0 : Nat} {bf : ab_B} : decode (ab_code (zx σ n0 bf).1 8170) 107 = .ok (.if_icmp .ne 8, 3) := zd zm_8170 (by decide +kernel)
theorem d_8170_110 {σ : Nat → Nat} {n0 : Nat} {bf : ab_B} : decode (ab_code (zx σ n0 bf).1 8170) 110 = .ok (.bipush 127, 2) := zd zm_8170 (by decide +kernel)
theorem d_8170_112 {σ : Nat → Nat} {n0 : Nat} {bf : ab_B} : decode (ab_code (zx σ n0 bf).1 8170) 112 = .ok (.goto 6, 3) := zd zm_8170 (by decide +kernel)
theorem d_8170_115 {σ : Nat → Nat} {n0 : Nat} {bf : ab_B} : decode (ab_code (zx σ n0 bf).1 8170) 115 = .ok (.sipush 128, 3) := zd zm_8170 (by decide +kernel)
theorem d_8170_118 {σ : Nat → Nat} {n0 : Nat} {bf : ab_B} : decode (ab_code (zx σ n0 bf).1 8170) 118 = .ok (.iload_n 1, 1) := zd zm_8170 (by decide +kernel)
theorem d_8170_119 {σ : Nat → Nat} {n0 : Nat} {bf : ab_B} : decode (ab_code (zx σ n0 bf).1 8170) 119 = .ok (.iload_n 2, 1) := zd zm_8170 (by decide +kernel)
theorem d_8170_120 {σ : Nat → Nat} {n0 : Nat} {bf : ab_B} : decode (ab_code (zx σ n0 bf).1 8170) 120 = .ok (.iconst 0, 1) := zd zm_8170 (by decide +kernel)
theorem d_8170_121 {σ : Nat → Nat} {n0 : Nat} {bf : ab_B} : decode (ab_code (zx σ n0 bf).1 8170) 121 = .ok (.invokevirtual 649, 3) := zd zm_8170 (by decide +kernel)
theorem d_8170_124 {σ : Nat → Nat} {n0 : Nat} {bf : ab_B} : decode (ab_code (zx σ n0 bf).1 8170) 124 = .ok (.iload_n 1, 1) := zd zm_8170 (by decide +kernel)
theorem d_8170_125 {σ : Nat → Nat} {n0 : Nat} {bf : ab_B} : decode (ab_code (zx σ n0 bf).1 8170) 125 = .ok (.bipush 19, 2) := zd zm_8170 (by decide +kernel)
theorem d_8170_127 {σ : Nat → Nat} {n0 : Nat} {bf : ab_B} : decode (ab_code (zx σ n0 bf).1 8170) 127 = .ok (.if_icmp .eq 15, 3) := zd zm_8170 (by decide +kernel)
theorem d_8170_130 {σ : Nat → Nat} {n0 : Nat} {bf : ab_B} : decode (ab_code (zx σ n0 bf).1 8170) 130 = .ok (.iload_n 1, 1) := zd zm_8170 (by decide +kernel)
theorem d_8170_131 {σ : Nat → Nat} {n0 : Nat} {bf : ab_B} : decode (ab_code (zx σ n0 bf).1 8170) 131 = .ok (.bipush 20, 2) := zd zm_8170 (by decide +kernel)
theorem d_8170_133 {σ : Nat → Nat} {n0 : Nat} {bf : ab_B} : decode (ab_code (zx σ n0 bf).1 8170) 133 = .ok (.if_icmp .eq 9, 3) := zd zm_8170 (by decide +kernel)
theorem d_8170_136 {σ : Nat → Nat} {n0 : Nat} {bf : ab_B} : decode (ab_code (zx σ n0 bf).1 8170) 136 = .ok (.iload_n 1, 1) := zd zm_8170 (by decide +kernel)
theorem d_8170_137 {σ : Nat → Nat} {n0 : Nat} {bf : ab_B} : decode (ab_code (zx σ n0 bf).1 8170) 137 = .ok (.bipush 21, 2) := zd zm_8170 (by decide +kernel)
theorem d_8170_139 {σ : Nat → Nat} {n0 : Nat} {bf : ab_B} : decode (ab_code (zx σ n0 bf).1 8170) 139 = .ok (.if_icmp .ne 10, 3) := zd zm_8170 (by decide +kernel)
theorem d_8170_142 {σ : Nat → Nat} {n0 : Nat} {bf : ab_B} : decode (ab_code (zx σ n0 bf).1 8170) 142 = .ok (.aload_n 0, 1) := zd zm_8170 (by decide +kernel)
theorem d_8170_143 {σ : Nat → Nat} {n0 : Nat} {bf : ab_B} : decode (ab_code (zx σ n0 bf).1 8170) 143 = .ok (.invokevirtual 968, 3) := zd zm_8170 (by decide +kernel)
theorem d_8170_146 {σ : Nat → Nat} {n0 : Nat} {bf : ab_B} : decode (ab_code (zx σ n0 bf).1 8170) 146 = .ok (.goto 11, 3) := zd zm_8170 (by decide +kernel)
theorem d_8170_149 {σ : Nat → Nat} {n0 : Nat} {bf : ab_B} : decode (ab_code (zx σ n0 bf).1 8170) 149 = .ok (.aload_n 0, 1) := zd zm_8170 (by decide +kernel)
theorem d_8170_150 {σ : Nat → Nat} {n0 : Nat} {bf : ab_B} : decode (ab_code (zx σ n0 bf).1 8170) 150 = .ok (.iconst 2, 1) := zd zm_8170 (by decide +kernel)
theorem d_8170_151 {σ : Nat → Nat} {n0 : Nat} {bf : ab_B} : decode (ab_code (zx σ n0 bf).1 8170) 151 = .ok (.iconst 0, 1) := zd zm_8170 (by decide +kernel)
theorem d_8170_152 {σ : Nat → Nat} {n0 : Nat} {bf : ab_B} : decode (ab_code (zx σ n0 bf).1 8170) 152 = .ok (.iconst 0, 1) := zd zm_8170 (by decide +kernel)
theorem d_8170_153 {σ : Nat → Nat} {n0 : Nat} {bf : ab_B} : decode (ab_code (zx σ n0 bf).1 8170) 153 = .ok (.iconst 0, 1) := zd zm_8170 (by decide +kernel)
theorem d_8170_154 {σ : Nat → Nat} {n0 : Nat} {bf : ab_B} : decode (ab_code (zx σ n0 bf).1 8170) 154 = .ok (.invokevirtual 649, 3) := zd zm_8170 (by decide +kernel)
theorem d_8170_157 {σ : Nat → Nat} {n0 : Nat} {bf : ab_B} : decode (ab_code (zx σ n0 bf).1 8170) 157 = .ok (.return_, 1) := zd zm_8170 (by decide +kernel)
def w_X9_knownStatement_62 (X : zs_X) (d : Nat)  (S : zs_T) (Q : zs_Q) : Prop :=
  (Q (.returned none) S)
theorem u_X9_knownStatement_62 {σ : Nat → Nat} {n0 : Nat} {bf : ab_B} {d : Nat}  {S : zs_T} {Q : zs_Q} (hB : zt_B bf) (h : w_X9_knownStatement_62 (zx σ n0 bf) d  S Q) : zs_U (zx σ n0 bf) d 8170 62 [] [] S Q := by
  unfold w_X9_knownStatement_62 at h
  exact zu_vret d_8170_62 zr_8170 h
def w_X9_knownStatement_54 (X : zs_X) (d : Nat)  (S : zs_T) (Q : zs_Q) : Prop :=
  (w_X9_knownStatement_62 X d  S Q)
theorem u_X9_knownStatement_54 {σ : Nat → Nat} {n0 : Nat} {bf : ab_B} {d : Nat}  {S : zs_T} {Q : zs_Q} (hB : zt_B bf) (h : w_X9_knownStatement_54 (zx σ n0 bf) d  S Q) : zs_U (zx σ n0 bf) d 8170 54 [] [] S Q := by
  unfold w_X9_knownStatement_54 at h
  refine zu_goto (t := 62) d_8170_54 rfl ?_
  exact (u_X9_knownStatement_62 hB h).weak trivial
def w_X9_knownStatement_157 (X : zs_X) (d : Nat)  (S : zs_T) (Q : zs_Q) : Prop :=
  (Q (.returned none) S)
theorem u_X9_knownStatement_157 {σ : Nat → Nat} {n0 : Nat} {bf : ab_B} {d : Nat}  {S : zs_T} {Q : zs_Q} (hB : zt_B bf) (h : w_X9_knownStatement_157 (zx σ n0 bf) d  S Q) : zs_U (zx σ n0 bf) d 8170 157 [] [] S Q := by
  unfold w_X9_knownStatement_157 at h
  exact zu_vret d_8170_157 zr_8170 h
def w_X9_knownStatement_142 (X : zs_X) (d : Nat) (p0 : Nat) (S : zs_T) (Q : zs_Q) : Prop :=
  (zs_K S p0 = some (.inl 8) ∧ zs_C X d 8171 [.ref p0] S (zs_kV (fun S2 => (w_X9_knownStatement_157 X d  S2 Q)) Q))
theorem u_X9_knownStatement_142 {σ : Nat → Nat} {n0 : Nat} {bf : ab_B} {d : Nat} {p0 : Nat} {S : zs_T} {Q : zs_Q} (hB : zt_B bf) (h : w_X9_knownStatement_142 (zx σ n0 bf) d p0 S Q) : zs_U (zx σ n0 bf) d 8170 142 [(0, .ref p0)] [] S Q := by
  unfold w_X9_knownStatement_142 at h
  refine zu_aload_n d_8170_142 rfl (zs_ra _) ?_
  obtain ⟨k1, h⟩ := h
  refine zc_8_968  hB rfl k1 d_8170_143 (Nat.le_of_ble_eq_true rfl) h (fun S2 h => ?_)
  refine zu_goto (t := 157) d_8170_146 rfl ?_
  exact (u_X9_knownStatement_157 hB h).weak trivial
def w_X9_knownStatement_118 (X : zs_X) (d : Nat) (p0 : Nat) (p1 : Int32) (p2 : Int32) (q0 : Option Nat) (q1 : Int32) (S : zs_T) (Q : zs_Q) : Prop :=
  (∃ b1, q0 = some b1 ∧ zs_K S b1 = some (.inl 8) ∧ zs_C X d 8030 [.ref b1, .int q1, .int p1, .int p2, .int (0 : Int32)] S (zs_kV (fun S4 => (((p1 = (19 : Int32) → w_X9_knownStatement_142 X d p0 S4 Q) ∧ (¬ (p1 = (19 : Int32)) → (((p1 = (20 : Int32) → w_X9_knownStatement_142 X d p0 S4 Q) ∧ (¬ (p1 = (20 : Int32)) → (((¬ p1 = (21 : Int32) → (zs_K S4 p0 = some (.inl 8) ∧ zs_C X d 8030 [.ref p0, .int (2 : Int32), .int (0 : Int32), .int (0 : Int32), .int (0 : Int32)] S4 (zs_kV (fun S10 => w_X9_knownStatement_157 X d  S10 Q) Q))) ∧ (¬ (¬ p1 = (21 : Int32)) → w_X9_knownStatement_142 X d p0 S4 Q)))))))))) Q))
theorem u_X9_knownStatement_118 {σ : Nat → Nat} {n0 : Nat} {bf : ab_B} {d : Nat} {p0 : Nat} {p1 : Int32} {p2 : Int32} {q0 : Option Nat} {q1 : Int32} {S : zs_T} {Q : zs_Q} (hB : zt_B bf) (h : w_X9_knownStatement_118 (zx σ n0 bf) d p0 p1 p2 q0 q1 S Q) : zs_U (zx σ n0 bf) d 8170 118 [(0, .ref p0), (1, .int p1), (2, .int p2)] [.int q1, va_rf q0] S Q := by
  unfold w_X9_knownStatement_118 at h
  refine zu_iload_n d_8170_118 rfl ?_
  refine zu_iload_n d_8170_119 rfl ?_
  refine zu_iconst d_8170_120 zi_0 ?_
  obtain ⟨b1, e2, h⟩ := h
  refine zs_stk4 (zs_rfe e2) ?_
  obtain ⟨k3, h⟩ := h
  refine zc_8_649 (x0 := q1) (x1 := p1) (x2 := p2) (x3 := (0 : Int32)) hB rfl k3 d_8170_121 (Nat.le_of_ble_eq_true rfl) h (fun S4 h => ?_)
  refine zu_iload_n d_8170_124 rfl ?_
  refine zu_bipush d_8170_125 zj_19 ?_
  refine zu_cmpeq (t := 142) d_8170_127 rfl (fun c6 => ?_) (fun c6 => ?_)
  · have h := h.1 c6
    exact (u_X9_knownStatement_142 hB h).weak ⟨rfl, trivial⟩
  · have h := h.2 c6
    refine zu_iload_n d_8170_130 rfl ?_
    refine zu_bipush d_8170_131 zj_20 ?_
    refine zu_cmpeq (t := 142) d_8170_133 rfl (fun c7 => ?_) (fun c7 => ?_)
    · have h := h.1 c7
      exact (u_X9_knownStatement_142 hB h).weak ⟨rfl, trivial⟩
    · have h := h.2 c7
      refine zu_iload_n d_8170_136 rfl ?_
      refine zu_bipush d_8170_137 zj_21 ?_
      refine zu_cmpne (t := 149) d_8170_139 rfl (fun c8 => ?_) (fun c8 => ?_)
      · have h := h.1 c8
        refine zu_aload_n d_8170_149 rfl (zs_ra _) ?_
        refine zu_iconst d_8170_150 zi_2 ?_
        refine zu_iconst d_8170_151 zi_0 ?_
        refine zu_iconst d_8170_152 zi_0 ?_
        refine zu_iconst d_8170_153 zi_0 ?_
        obtain ⟨k9, h⟩ := h
        refine zc_8_649 (x0 := (2 : Int32)) (x1 := (0 : Int32)) (x2 := (0 : Int32)) (x3 := (0 : Int32)) hB rfl k9 d_8170_154 (Nat.le_of_ble_eq_true rfl) h (fun S10 h => ?_)
        exact (u_X9_knownStatement_157 hB h).weak trivial
      · have h := h.2 c8
        exact (u_X9_knownStatement_142 hB h).weak ⟨rfl, trivial⟩
def w_X9_knownStatement_73 (X : zs_X) (d : Nat) (p0 : Nat) (p1 : Int32) (p2 : Int32) (S : zs_T) (Q : zs_Q) : Prop :=
  (zs_K S p0 = some (.inl 8) ∧ zs_C X d 8060 [.ref p0] S (zs_kV (fun S2 => (zs_K S2 p0 = some (.inl 8) ∧ zs_C X d 8014 [.ref p0] S2 (zs_kV (fun S5 => (((¬ p1 = (19 : Int32) → (((¬ p1 = (20 : Int32) → (((¬ p1 = (21 : Int32) → (w_X9_knownStatement_118 X d p0 p1 p2 (some p0) (128 : Int32) S5 Q)) ∧ (¬ (¬ p1 = (21 : Int32)) → (w_X9_knownStatement_118 X d p0 p1 p2 (some p0) (127 : Int32) S5 Q))))) ∧ (¬ (¬ p1 = (20 : Int32)) → (w_X9_knownStatement_118 X d p0 p1 p2 (some p0) (126 : Int32) S5 Q))))) ∧ (¬ (¬ p1 = (19 : Int32)) → (w_X9_knownStatement_118 X d p0 p1 p2 (some p0) (124 : Int32) S5 Q))))) Q))) Q))
theorem u_X9_knownStatement_73 {σ : Nat → Nat} {n0 : Nat} {bf : ab_B} {d : Nat} {p0 : Nat} {p1 : Int32} {p2 : Int32} {S : zs_T} {Q : zs_Q} (hB : zt_B bf) (h : w_X9_knownStatement_73 (zx σ n0 bf) d p0 p1 p2 S Q) : zs_U (zx σ n0 bf) d 8170 73 [(0, .ref p0), (1, .int p1), (2, .int p2)] [] S Q := by
  unfold w_X9_knownStatement_73 at h
  refine zu_aload_n d_8170_73 rfl (zs_ra _) ?_
  obtain ⟨k1, h⟩ := h
  refine zc_8_706  hB rfl k1 d_8170_74 (Nat.le_of_ble_eq_true rfl) h (fun S2 h => ?_)
  refine zu_aload_n d_8170_77 rfl (zs_ra _) ?_
  obtain ⟨k4, h⟩ := h
  refine zc_8_538  hB rfl k4 d_8170_78 (Nat.le_of_ble_eq_true rfl) h (fun S5 h => ?_)
  refine zu_aload_n d_8170_81 rfl (zs_ra _) ?_
  refine zu_iload_n d_8170_82 rfl ?_
  refine zu_bipush d_8170_83 zj_19 ?_
  refine zu_cmpne (t := 93) d_8170_85 rfl (fun c7 => ?_) (fun c7 => ?_)
  · have h := h.1 c7
    refine zu_iload_n d_8170_93 rfl ?_
    refine zu_bipush d_8170_94 zj_20 ?_
    refine zu_cmpne (t := 104) d_8170_96 rfl (fun c8 => ?_) (fun c8 => ?_)
    · have h := h.1 c8
      refine zu_iload_n d_8170_104 rfl ?_
      refine zu_bipush d_8170_105 zj_21 ?_
      refine zu_cmpne (t := 115) d_8170_107 rfl (fun c9 => ?_) (fun c9 => ?_)
      · have h := h.1 c9
        refine zu_sipush d_8170_115 zh_128 ?_
        exact (u_X9_knownStatement_118 hB h).weak ⟨rfl, rfl, rfl, trivial⟩
      · have h := h.2 c9
        refine zu_bipush d_8170_110 zj_127 ?_
        refine zu_goto (t := 118) d_8170_112 rfl ?_
        exact (u_X9_knownStatement_118 hB h).weak ⟨rfl, rfl, rfl, trivial⟩
    · have h := h.2 c8
      refine zu_bipush d_8170_99 zj_126 ?_
      refine zu_goto (t := 118) d_8170_101 rfl ?_
      exact (u_X9_knownStatement_118 hB h).weak ⟨rfl, rfl, rfl, trivial⟩
  · have h := h.2 c7
    refine zu_bipush d_8170_88 zj_124 ?_
    refine zu_goto (t := 118) d_8170_90 rfl ?_
    exact (u_X9_knownStatement_118 hB h).weak ⟨rfl, rfl, rfl, trivial⟩
def w_X9_knownStatement (X : zs_X) (d : Nat) (p0 : Nat) (p1 : Int32) (p2 : Int32) (S : zs_T) (Q : zs_Q) : Prop :=
  (zs_K S p0 = some (.inl 8) ∧ (((zs_I S 8010 p0) ≤ 0 → (((¬ p1 = (24 : Int32) → (zs_C X d 8029 [.ref p0, .int (8 : Int32)] S (zs_kI (fun v5 S4 => (((¬ v5 = 0 → (zs_K S4 p0 = some (.inl 8) ∧ zs_C X d 8030 [.ref p0, .int (129 : Int32), .int p1, .int p2, .int (0 : Int32)] S4 (zs_kV (fun S8 => w_X9_knownStatement_73 X d p0 p1 p2 S8 Q) Q))) ∧ (¬ (¬ v5 = 0) → (((¬ p1 = (23 : Int32) → (zs_K S4 p0 = some (.inl 8) ∧ zs_C X d 8027 [.ref p0, .int (5 : Int32)] S4 (zs_kV (fun S12 => w_X9_knownStatement_62 X d  S12 Q) Q))) ∧ (¬ (¬ p1 = (23 : Int32)) → (zs_K S4 p0 = some (.inl 8) ∧ zs_C X d 8012 [.ref p0, .int (98 : Int32), .int (0 : Int32), .int (0 : Int32), .int p2] S4 (zs_kI (fun v16 S15 => (w_X9_knownStatement_54 X d  S15 Q)) Q))))))))) Q))) ∧ (¬ (¬ p1 = (24 : Int32)) → (zs_C X d 8012 [.ref p0, .int (89 : Int32), .int (0 : Int32), .int (0 : Int32), .int p2] S (zs_kI (fun v18 S17 => (zs_K S17 p0 = some (.inl 8) ∧ zs_C X d 8064 [.ref p0] S17 (zs_kV (fun S20 => (Q (.returned none) S20)) Q))) Q)))))) ∧ (¬ ((zs_I S 8010 p0) ≤ 0) → (Q (.returned none) S))))
theorem u_X9_knownStatement {σ : Nat → Nat} {n0 : Nat} {bf : ab_B} {d : Nat} {p0 : Nat} {p1 : Int32} {p2 : Int32} {S : zs_T} {Q : zs_Q} (hB : zt_B bf) (hd : 1 ≤ d) (h : w_X9_knownStatement (zx σ n0 bf) (d - 1) p0 p1 p2 S Q) : zs_C (zx σ n0 bf) d 8170 [.ref p0, .int p1, .int p2] S Q := by
  have hL : lv_args 0 [.ref p0, .int p1, .int p2] = [(0, .ref p0), (1, .int p1), (2, .int p2)] := rfl
  refine zs_C.of1 (hB.2 8170 (by decide) (by decide)) hd (by rw [hL]; exact zs_sub_self _ (by exact ⟨rfl, rfl, rfl, trivial⟩)) ?_
  rw [hL]
  clear hL
  unfold w_X9_knownStatement at h
  refine zu_aload_n d_8170_0 rfl (zs_ra _) ?_
  obtain ⟨k1, h⟩ := h
  refine zg_8_444 rfl d_8170_1 k1 ?_
  refine zu_ifle (t := 8) d_8170_4 rfl (fun c2 => ?_) (fun c2 => ?_)
  · have h := h.1 c2
    refine zu_iload_n d_8170_8 rfl ?_
    refine zu_bipush d_8170_9 zj_24 ?_
    refine zu_cmpne (t := 29) d_8170_11 rfl (fun c3 => ?_) (fun c3 => ?_)
    · have h := h.1 c3
      refine zu_aload_n d_8170_29 rfl (zs_ra _) ?_
      refine zu_bipush d_8170_30 zj_8 ?_
      refine zc_8_535 (x0 := (8 : Int32)) hB rfl k1 d_8170_32 (Nat.le_of_ble_eq_true rfl) h (fun v5 S4 h => ?_)
      refine zu_ifne (t := 63) d_8170_35 rfl (fun c6 => ?_) (fun c6 => ?_)
      · have h := h.1 c6
        refine zu_aload_n d_8170_63 rfl (zs_ra _) ?_
        refine zu_sipush d_8170_64 zh_129 ?_
        refine zu_iload_n d_8170_67 rfl ?_
        refine zu_iload_n d_8170_68 rfl ?_
        refine zu_iconst d_8170_69 zi_0 ?_
        obtain ⟨k7, h⟩ := h
        refine zc_8_649 (x0 := (129 : Int32)) (x1 := p1) (x2 := p2) (x3 := (0 : Int32)) hB rfl k7 d_8170_70 (Nat.le_of_ble_eq_true rfl) h (fun S8 h => ?_)
        exact (u_X9_knownStatement_73 hB h).weak ⟨rfl, rfl, rfl, trivial⟩
      · have h := h.2 c6
        refine zu_iload_n d_8170_38 rfl ?_
        refine zu_bipush d_8170_39 zj_23 ?_
        refine zu_cmpne (t := 57) d_8170_41 rfl (fun c10 => ?_) (fun c10 => ?_)
        · have h := h.1 c10
          refine zu_aload_n d_8170_57 rfl (zs_ra _) ?_
          refine zu_iconst d_8170_58 zi_5 ?_
          obtain ⟨k11, h⟩ := h
          refine zc_8_541 (x0 := (5 : Int32)) hB rfl k11 d_8170_59 (Nat.le_of_ble_eq_true rfl) h (fun S12 h => ?_)
          exact (u_X9_knownStatement_62 hB h).weak trivial
        · have h := h.2 c10
          refine zu_aload_n d_8170_44 rfl (zs_ra _) ?_
          refine zu_bipush d_8170_45 zj_98 ?_
          refine zu_iconst d_8170_47 zi_0 ?_
          refine zu_iconst d_8170_48 zi_0 ?_
          refine zu_iload_n d_8170_49 rfl ?_
          obtain ⟨k14, h⟩ := h
          refine zc_8_656 (x0 := (98 : Int32)) (x1 := (0 : Int32)) (x2 := (0 : Int32)) (x3 := p2) hB rfl k14 d_8170_50 (Nat.le_of_ble_eq_true rfl) h (fun v16 S15 h => ?_)
          refine zu_istore_n d_8170_53 (zs_lt zq_8170 rfl) ?_
          exact (u_X9_knownStatement_54 hB h).weak trivial
    · have h := h.2 c3
      refine zu_aload_n d_8170_14 rfl (zs_ra _) ?_
      refine zu_bipush d_8170_15 zj_89 ?_
      refine zu_iconst d_8170_17 zi_0 ?_
      refine zu_iconst d_8170_18 zi_0 ?_
      refine zu_iload_n d_8170_19 rfl ?_
      refine zc_8_656 (x0 := (89 : Int32)) (x1 := (0 : Int32)) (x2 := (0 : Int32)) (x3 := p2) hB rfl k1 d_8170_20 (Nat.le_of_ble_eq_true rfl) h (fun v18 S17 h => ?_)
      refine zu_istore_n d_8170_23 (zs_lt zq_8170 rfl) ?_
      refine zu_aload_n d_8170_24 rfl (zs_ra _) ?_
      obtain ⟨k19, h⟩ := h
      refine zc_8_749  hB rfl k19 d_8170_25 (Nat.le_of_ble_eq_true rfl) h (fun S20 h => ?_)
      exact zu_vret d_8170_28 zr_8170 h
  · have h := h.2 c2
    exact zu_vret d_8170_7 zr_8170 h
/-! SchemaPascalModel.withName()V -/
theorem zm_8171 {σ : Nat → Nat} {n0 : Nat} {bf : ab_B} : ab_code (zx σ n0 bf).1 8171 = prog_17_method_184_code := rfl
theorem zq_8171 {σ : Nat → Nat} {n0 : Nat} {bf : ab_B} : ab_maxL (zx σ n0 bf).1 8171 = 2 := rfl
theorem zr_8171 {σ : Nat → Nat} {n0 : Nat} {bf : ab_B} : ab_ret (zx σ n0 bf).1 8171 = (Option.none : Option Jvm.ClassFile.FieldType) := rfl
theorem d_8171_0 {σ : Nat → Nat} {n0 : Nat} {bf : ab_B} : decode (ab_code (zx σ n0 bf).1 8171) 0 = .ok (.aload_n 0, 1) := zd zm_8171 (by decide +kernel)
theorem d_8171_1 {σ : Nat → Nat} {n0 : Nat} {bf : ab_B} : decode (ab_code (zx σ n0 bf).1 8171) 1 = .ok (.getfield 444, 3) := zd zm_8171 (by decide +kernel)
theorem d_8171_4 {σ : Nat → Nat} {n0 : Nat} {bf : ab_B} : decode (ab_code (zx σ n0 bf).1 8171) 4 = .ok (.ifCond .le 4, 3) := zd zm_8171 (by decide +kernel)
theorem d_8171_7 {σ : Nat → Nat} {n0 : Nat} {bf : ab_B} : decode (ab_code (zx σ n0 bf).1 8171) 7 = .ok (.return_, 1) := zd zm_8171 (by decide +kernel)
theorem d_8171_8 {σ : Nat → Nat} {n0 : Nat} {bf : ab_B} : decode (ab_code (zx σ n0 bf).1 8171) 8 = .ok (.aload_n 0, 1) := zd zm_8171 (by decide +kernel)
theorem d_8171_9 {σ : Nat → Nat} {n0 : Nat} {bf : ab_B} : decode (ab_code (zx σ n0 bf).1 8171) 9 = .ok (.getfield 484, 3) := zd zm_8171 (by decide +kernel)
theorem d_8171_12 {σ : Nat → Nat} {n0 : Nat} {bf : ab_B} : decode (ab_code (zx σ n0 bf).1 8171) 12 = .ok (.iconst 1, 1) := zd zm_8171 (by decide +kernel)
theorem d_8171_13 {σ : Nat → Nat} {n0 : Nat} {bf : ab_B} : decode (ab_code (zx σ n0 bf).1 8171) 13 = .ok (.if_icmp .ne 15, 3) := zd zm_8171 (by decide +kernel)
theorem d_8171_16 {σ : Nat → Nat} {n0 : Nat} {bf : ab_B} : decode (ab_code (zx σ n0 bf).1 8171) 16 = .ok (.aload_n 0, 1) := zd zm_8171 (by decide +kernel)
theorem d_8171_17 {σ : Nat → Nat} {n0 : Nat} {bf : ab_B} : decode (ab_code (zx σ n0 bf).1 8171) 17 = .ok (.getfield 37, 3) := zd zm_8171 (by decide +kernel)
theorem d_8171_20 {σ : Nat → Nat} {n0 : Nat} {bf : ab_B} : decode (ab_code (zx σ n0 bf).1 8171) 20 = .ok (.aload_n 0, 1) := zd zm_8171 (by decide +kernel)
theorem d_8171_21 {σ : Nat → Nat} {n0 : Nat} {bf : ab_B} : decode (ab_code (zx σ n0 bf).1 8171) 21 = .ok (.getfield 494, 3) := zd zm_8171 (by decide +kernel)
theorem d_8171_24 {σ : Nat → Nat} {n0 : Nat} {bf : ab_B} : decode (ab_code (zx σ n0 bf).1 8171) 24 = .ok (.iaload, 1) := zd zm_8171 (by decide +kernel)
theorem d_8171_25 {σ : Nat → Nat} {n0 : Nat} {bf : ab_B} : decode (ab_code (zx σ n0 bf).1 8171) 25 = .ok (.goto 4, 3) := zd zm_8171 (by decide +kernel)
theorem d_8171_28 {σ : Nat → Nat} {n0 : Nat} {bf : ab_B} : decode (ab_code (zx σ n0 bf).1 8171) 28 = .ok (.iconst 0, 1) := zd zm_8171 (by decide +kernel)
theorem d_8171_29 {σ : Nat → Nat} {n0 : Nat} {bf : ab_B} : decode (ab_code (zx σ n0 bf).1 8171) 29 = .ok (.istore_n 1, 1) := zd zm_8171 (by decide +kernel)
theorem d_8171_30 {σ : Nat → Nat} {n0 : Nat} {bf : ab_B} : decode (ab_code (zx σ n0 bf).1 8171) 30 = .ok (.aload_n 0, 1) := zd zm_8171 (by decide +kernel)
theorem d_8171_31 {σ : Nat → Nat} {n0 : Nat} {bf : ab_B} : decode (ab_code (zx σ n0 bf).1 8171) 31 = .ok (.getfield 484, 3) := zd zm_8171 (by decide +kernel)
theorem d_8171_34 {σ : Nat → Nat} {n0 : Nat} {bf : ab_B} : decode (ab_code (zx σ n0 bf).1 8171) 34 = .ok (.iconst 1, 1) := zd zm_8171 (by decide +kernel)
theorem d_8171_35 {σ : Nat → Nat} {n0 : Nat} {bf : ab_B} : decode (ab_code (zx σ n0 bf).1 8171) 35 = .ok (.if_icmp .eq 11, 3) := zd zm_8171 (by decide +kernel)
theorem d_8171_38 {σ : Nat → Nat} {n0 : Nat} {bf : ab_B} : decode (ab_code (zx σ n0 bf).1 8171) 38 = .ok (.aload_n 0, 1) := zd zm_8171 (by decide +kernel)
theorem d_8171_39 {σ : Nat → Nat} {n0 : Nat} {bf : ab_B} : decode (ab_code (zx σ n0 bf).1 8171) 39 = .ok (.iconst 2, 1) := zd zm_8171 (by decide +kernel)
theorem d_8171_40 {σ : Nat → Nat} {n0 : Nat} {bf : ab_B} : decode (ab_code (zx σ n0 bf).1 8171) 40 = .ok (.invokevirtual 541, 3) := zd zm_8171 (by decide +kernel)
theorem d_8171_43 {σ : Nat → Nat} {n0 : Nat} {bf : ab_B} : decode (ab_code (zx σ n0 bf).1 8171) 43 = .ok (.goto 45, 3) := zd zm_8171 (by decide +kernel)
theorem d_8171_46 {σ : Nat → Nat} {n0 : Nat} {bf : ab_B} : decode (ab_code (zx σ n0 bf).1 8171) 46 = .ok (.iload_n 1, 1) := zd zm_8171 (by decide +kernel)
theorem d_8171_47 {σ : Nat → Nat} {n0 : Nat} {bf : ab_B} : decode (ab_code (zx σ n0 bf).1 8171) 47 = .ok (.ifCond .eq 24, 3) := zd zm_8171 (by decide +kernel)
theorem d_8171_50 {σ : Nat → Nat} {n0 : Nat} {bf : ab_B} : decode (ab_code (zx σ n0 bf).1 8171) 50 = .ok (.aload_n 0, 1) := zd zm_8171 (by decide +kernel)
theorem d_8171_51 {σ : Nat → Nat} {n0 : Nat} {bf : ab_B} : decode (ab_code (zx σ n0 bf).1 8171) 51 = .ok (.getfield 44, 3) := zd zm_8171 (by decide +kernel)
theorem d_8171_54 {σ : Nat → Nat} {n0 : Nat} {bf : ab_B} : decode (ab_code (zx σ n0 bf).1 8171) 54 = .ok (.iload_n 1, 1) := zd zm_8171 (by decide +kernel)
theorem d_8171_55 {σ : Nat → Nat} {n0 : Nat} {bf : ab_B} : decode (ab_code (zx σ n0 bf).1 8171) 55 = .ok (.baload, 1) := zd zm_8171 (by decide +kernel)
theorem d_8171_56 {σ : Nat → Nat} {n0 : Nat} {bf : ab_B} : decode (ab_code (zx σ n0 bf).1 8171) 56 = .ok (.iconst 4, 1) := zd zm_8171 (by decide +kernel)
theorem d_8171_57 {σ : Nat → Nat} {n0 : Nat} {bf : ab_B} : decode (ab_code (zx σ n0 bf).1 8171) 57 = .ok (.if_icmp .eq 22, 3) := zd zm_8171 (by decide +kernel)
theorem d_8171_60 {σ : Nat → Nat} {n0 : Nat} {bf : ab_B} : decode (ab_code (zx σ n0 bf).1 8171) 60 = .ok (.aload_n 0, 1) := zd zm_8171 (by decide +kernel)
theorem d_8171_61 {σ : Nat → Nat} {n0 : Nat} {bf : ab_B} : decode (ab_code (zx σ n0 bf).1 8171) 61 = .ok (.getfield 44, 3) := zd zm_8171 (by decide +kernel)
theorem d_8171_64 {σ : Nat → Nat} {n0 : Nat} {bf : ab_B} : decode (ab_code (zx σ n0 bf).1 8171) 64 = .ok (.iload_n 1, 1) := zd zm_8171 (by decide +kernel)
theorem d_8171_65 {σ : Nat → Nat} {n0 : Nat} {bf : ab_B} : decode (ab_code (zx σ n0 bf).1 8171) 65 = .ok (.baload, 1) := zd zm_8171 (by decide +kernel)
theorem d_8171_66 {σ : Nat → Nat} {n0 : Nat} {bf : ab_B} : decode (ab_code (zx σ n0 bf).1 8171) 66 = .ok (.bipush 8, 2) := zd zm_8171 (by decide +kernel)
theorem d_8171_68 {σ : Nat → Nat} {n0 : Nat} {bf : ab_B} : decode (ab_code (zx σ n0 bf).1 8171) 68 = .ok (.if_icmp .eq 11, 3) := zd zm_8171 (by decide +kernel)
theorem d_8171_71 {σ : Nat → Nat} {n0 : Nat} {bf : ab_B} : decode (ab_code (zx σ n0 bf).1 8171) 71 = .ok (.aload_n 0, 1) := zd zm_8171 (by decide +kernel)
theorem d_8171_72 {σ : Nat → Nat} {n0 : Nat} {bf : ab_B} : decode (ab_code (zx σ n0 bf).1 8171) 72 = .ok (.iconst 3, 1) := zd zm_8171 (by decide +kernel)
theorem d_8171_73 {σ : Nat → Nat} {n0 : Nat} {bf : ab_B} : decode (ab_code (zx σ n0 bf).1 8171) 73 = .ok (.invokevirtual 541, 3) := zd zm_8171 (by decide +kernel)
theorem d_8171_76 {σ : Nat → Nat} {n0 : Nat} {bf : ab_B} : decode (ab_code (zx σ n0 bf).1 8171) 76 = .ok (.goto 12, 3) := zd zm_8171 (by decide +kernel)
theorem d_8171_79 {σ : Nat → Nat} {n0 : Nat} {bf : ab_B} : decode (ab_code (zx σ n0 bf).1 8171) 79 = .ok (.aload_n 0, 1) := zd zm_8171 (by decide +kernel)
theorem d_8171_80 {σ : Nat → Nat} {n0 : Nat} {bf : ab_B} : decode (ab_code (zx σ n0 bf).1 8171) 80 = .ok (.iload_n 1, 1) := zd zm_8171 (by decide +kernel)
theorem d_8171_81 {σ : Nat → Nat} {n0 : Nat} {bf : ab_B} : decode (ab_code (zx σ n0 bf).1 8171) 81 = .ok (.aload_n 0, 1) := zd zm_8171 (by decide +kernel)
theorem d_8171_82 {σ : Nat → Nat} {n0 : Nat} {bf : ab_B} : decode (ab_code (zx σ n0 bf).1 8171) 82 = .ok (.getfield 450, 3) := zd zm_8171 (by decide +kernel)
theorem d_8171_85 {σ : Nat → Nat} {n0 : Nat} {bf : ab_B} : decode (ab_code (zx σ n0 bf).1 8171) 85 = .ok (.invokevirtual 712, 3) := zd zm_8171 (by decide +kernel)
theorem d_8171_88 {σ : Nat → Nat} {n0 : Nat} {bf : ab_B} : decode (ab_code (zx σ n0 bf).1 8171) 88 = .ok (.return_, 1) := zd zm_8171 (by decide +kernel)
def w_X9_withName_71 (X : zs_X) (d : Nat) (p0 : Nat) (S : zs_T) (Q : zs_Q) : Prop :=
  (zs_K S p0 = some (.inl 8) ∧ zs_C X d 8027 [.ref p0, .int (3 : Int32)] S (zs_kV (fun S2 => (Q (.returned none) S2)) Q))
theorem u_X9_withName_71 {σ : Nat → Nat} {n0 : Nat} {bf : ab_B} {d : Nat} {p0 : Nat} {S : zs_T} {Q : zs_Q} (hB : zt_B bf) (h : w_X9_withName_71 (zx σ n0 bf) d p0 S Q) : zs_U (zx σ n0 bf) d 8171 71 [(0, .ref p0)] [] S Q := by
  unfold w_X9_withName_71 at h
  refine zu_aload_n d_8171_71 rfl (zs_ra _) ?_
  refine zu_iconst d_8171_72 zi_3 ?_
  obtain ⟨k1, h⟩ := h
  refine zc_8_541 (x0 := (3 : Int32)) hB rfl k1 d_8171_73 (Nat.le_of_ble_eq_true rfl) h (fun S2 h => ?_)
  refine zu_goto (t := 88) d_8171_76 rfl ?_
  exact zu_vret d_8171_88 zr_8171 h
def w_X9_withName_79 (X : zs_X) (d : Nat) (p0 : Nat) (p1 : Int32) (S : zs_T) (Q : zs_Q) : Prop :=
  (zs_K S p0 = some (.inl 8) ∧ zs_C X d 8062 [.ref p0, .int p1, .int (zs_I S 8007 p0)] S (zs_kV (fun S2 => (Q (.returned none) S2)) Q))
theorem u_X9_withName_79 {σ : Nat → Nat} {n0 : Nat} {bf : ab_B} {d : Nat} {p0 : Nat} {p1 : Int32} {S : zs_T} {Q : zs_Q} (hB : zt_B bf) (h : w_X9_withName_79 (zx σ n0 bf) d p0 p1 S Q) : zs_U (zx σ n0 bf) d 8171 79 [(0, .ref p0), (1, .int p1)] [] S Q := by
  unfold w_X9_withName_79 at h
  refine zu_aload_n d_8171_79 rfl (zs_ra _) ?_
  refine zu_iload_n d_8171_80 rfl ?_
  refine zu_aload_n d_8171_81 rfl (zs_ra _) ?_
  obtain ⟨k1, h⟩ := h
  refine zg_8_450 rfl d_8171_82 k1 ?_
  refine zc_8_712 (x0 := p1) (x1 := (zs_I S 8007 p0)) hB rfl k1 d_8171_85 (Nat.le_of_ble_eq_true rfl) h (fun S2 h => ?_)
  exact zu_vret d_8171_88 zr_8171 h
def w_X9_withName_29 (X : zs_X) (d : Nat) (p0 : Nat) (q0 : Int32) (S : zs_T) (Q : zs_Q) : Prop :=
  (zs_K S p0 = some (.inl 8) ∧ (((zs_I S 8006 p0) = (1 : Int32) → (((q0 = 0 → w_X9_withName_71 X d p0 S Q) ∧ (¬ (q0 = 0) → (∃ b4, (zs_R S 8024 p0) = some b4 ∧ zs_A S b4 1 q0 ∧ (((zs_i S b4 q0.toNatClampNeg) = (4 : Int32) → w_X9_withName_79 X d p0 q0 S Q) ∧ (¬ ((zs_i S b4 q0.toNatClampNeg) = (4 : Int32)) → ((((zs_i S b4 q0.toNatClampNeg) = (8 : Int32) → w_X9_withName_79 X d p0 q0 S Q) ∧ (¬ ((zs_i S b4 q0.toNatClampNeg) = (8 : Int32)) → w_X9_withName_71 X d p0 S Q)))))))))) ∧ (¬ ((zs_I S 8006 p0) = (1 : Int32)) → (zs_C X d 8027 [.ref p0, .int (2 : Int32)] S (zs_kV (fun S9 => (Q (.returned none) S9)) Q)))))
theorem u_X9_withName_29 {σ : Nat → Nat} {n0 : Nat} {bf : ab_B} {d : Nat} {p0 : Nat} {q0 : Int32} {S : zs_T} {Q : zs_Q} (hB : zt_B bf) (h : w_X9_withName_29 (zx σ n0 bf) d p0 q0 S Q) : zs_U (zx σ n0 bf) d 8171 29 [(0, .ref p0)] [.int q0] S Q := by
  unfold w_X9_withName_29 at h
  refine zu_istore_n d_8171_29 (zs_lt zq_8171 rfl) ?_
  refine zu_aload_n d_8171_30 rfl (zs_ra _) ?_
  obtain ⟨k1, h⟩ := h
  refine zg_8_484 rfl d_8171_31 k1 ?_
  refine zu_iconst d_8171_34 zi_1 ?_
  refine zu_cmpeq (t := 46) d_8171_35 rfl (fun c2 => ?_) (fun c2 => ?_)
  · have h := h.1 c2
    refine zu_iload_n d_8171_46 rfl ?_
    refine zu_ifeq (t := 71) d_8171_47 rfl (fun c3 => ?_) (fun c3 => ?_)
    · have h := h.1 c3
      exact (u_X9_withName_71 hB h).weak ⟨rfl, trivial⟩
    · have h := h.2 c3
      refine zu_aload_n d_8171_50 rfl (zs_ra _) ?_
      refine zg_8_44 rfl d_8171_51 k1 ?_
      refine zu_iload_n d_8171_54 rfl ?_
      obtain ⟨b4, e5, h⟩ := h
      refine zs_stk1 (zs_rfe e5) ?_
      obtain ⟨k6, h⟩ := h
      refine zu_bald (k := 1) d_8171_55 rfl (Or.inl rfl) k6 ?_
      refine zu_iconst d_8171_56 zi_4 ?_
      refine zu_cmpeq (t := 79) d_8171_57 rfl (fun c7 => ?_) (fun c7 => ?_)
      · have h := h.1 c7
        exact (u_X9_withName_79 hB h).weak ⟨rfl, rfl, trivial⟩
      · have h := h.2 c7
        refine zu_aload_n d_8171_60 rfl (zs_ra _) ?_
        refine zg_8_44 rfl d_8171_61 k1 ?_
        refine zu_iload_n d_8171_64 rfl ?_
        refine zs_stk1 (zs_rfe e5) ?_
        refine zu_bald (k := 1) d_8171_65 rfl (Or.inl rfl) k6 ?_
        refine zu_bipush d_8171_66 zj_8 ?_
        refine zu_cmpeq (t := 79) d_8171_68 rfl (fun c8 => ?_) (fun c8 => ?_)
        · have h := h.1 c8
          exact (u_X9_withName_79 hB h).weak ⟨rfl, rfl, trivial⟩
        · have h := h.2 c8
          exact (u_X9_withName_71 hB h).weak ⟨rfl, trivial⟩
  · have h := h.2 c2
    refine zu_aload_n d_8171_38 rfl (zs_ra _) ?_
    refine zu_iconst d_8171_39 zi_2 ?_
    refine zc_8_541 (x0 := (2 : Int32)) hB rfl k1 d_8171_40 (Nat.le_of_ble_eq_true rfl) h (fun S9 h => ?_)
    refine zu_goto (t := 88) d_8171_43 rfl ?_
    exact zu_vret d_8171_88 zr_8171 h
def w_X9_withName (X : zs_X) (d : Nat) (p0 : Nat) (S : zs_T) (Q : zs_Q) : Prop :=
  (zs_K S p0 = some (.inl 8) ∧ (((zs_I S 8010 p0) ≤ 0 → (((¬ (zs_I S 8006 p0) = (1 : Int32) → (w_X9_withName_29 X d p0 (0 : Int32) S Q)) ∧ (¬ (¬ (zs_I S 8006 p0) = (1 : Int32)) → (∃ b4, (zs_R S 8019 p0) = some b4 ∧ zs_A S b4 0 (zs_I S 8009 p0) ∧ w_X9_withName_29 X d p0 (zs_i S b4 (zs_I S 8009 p0).toNatClampNeg) S Q))))) ∧ (¬ ((zs_I S 8010 p0) ≤ 0) → (Q (.returned none) S))))
theorem u_X9_withName {σ : Nat → Nat} {n0 : Nat} {bf : ab_B} {d : Nat} {p0 : Nat} {S : zs_T} {Q : zs_Q} (hB : zt_B bf) (hd : 1 ≤ d) (h : w_X9_withName (zx σ n0 bf) (d - 1) p0 S Q) : zs_C (zx σ n0 bf) d 8171 [.ref p0] S Q := by
  have hL : lv_args 0 [.ref p0] = [(0, .ref p0)] := rfl
  refine zs_C.of1 (hB.2 8171 (by decide) (by decide)) hd (by rw [hL]; exact zs_sub_self _ (by exact ⟨rfl, trivial⟩)) ?_
  rw [hL]
  clear hL
  unfold w_X9_withName at h
  refine zu_aload_n d_8171_0 rfl (zs_ra _) ?_
  obtain ⟨k1, h⟩ := h
  refine zg_8_444 rfl d_8171_1 k1 ?_
  refine zu_ifle (t := 8) d_8171_4 rfl (fun c2 => ?_) (fun c2 => ?_)
  · have h := h.1 c2
    refine zu_aload_n d_8171_8 rfl (zs_ra _) ?_
    refine zg_8_484 rfl d_8171_9 k1 ?_
    refine zu_iconst d_8171_12 zi_1 ?_
    refine zu_cmpne (t := 28) d_8171_13 rfl (fun c3 => ?_) (fun c3 => ?_)
    · have h := h.1 c3
      refine zu_iconst d_8171_28 zi_0 ?_
      exact (u_X9_withName_29 hB h).weak ⟨rfl, trivial⟩
    · have h := h.2 c3
      refine zu_aload_n d_8171_16 rfl (zs_ra _) ?_
      refine zg_8_37 rfl d_8171_17 k1 ?_
      refine zu_aload_n d_8171_20 rfl (zs_ra _) ?_
      refine zg_8_494 rfl d_8171_21 k1 ?_
      obtain ⟨b4, e5, h⟩ := h
      refine zs_stk1 (zs_rfe e5) ?_
      obtain ⟨k6, h⟩ := h
      refine zu_iald (k := 0) d_8171_24 rfl rfl k6 ?_
      refine zu_goto (t := 29) d_8171_25 rfl ?_
      exact (u_X9_withName_29 hB h).weak ⟨rfl, trivial⟩
  · have h := h.2 c2
    exact zu_vret d_8171_7 zr_8171 h
/-! SchemaPascalModel.forHere(I)V -/
theorem zm_8172 {σ : Nat → Nat} {n0 : Nat} {bf : ab_B} : ab_code (zx σ n0 bf).1 8172 = prog_17_method_175_code := rfl
theorem zq_8172 {σ : Nat → Nat} {n0 : Nat} {bf : ab_B} : ab_maxL (zx σ n0 bf).1 8172 = 3 := rfl
theorem zr_8172 {σ : Nat → Nat} {n0 : Nat} {bf : ab_B} : ab_ret (zx σ n0 bf).1 8172 = (Option.none : Option Jvm.ClassFile.FieldType) := rfl
theorem d_8172_0 {σ : Nat → Nat} {n0 : Nat} {bf : ab_B} : decode (ab_code (zx σ n0 bf).1 8172) 0 = .ok (.aload_n 0, 1) := zd zm_8172 (by decide +kernel)
theorem d_8172_1 {σ : Nat → Nat} {n0 : Nat} {bf : ab_B} : decode (ab_code (zx σ n0 bf).1 8172) 1 = .ok (.getfield 444, 3) := zd zm_8172 (by decide +kernel)
theorem d_8172_4 {σ : Nat → Nat} {n0 : Nat} {bf : ab_B} : decode (ab_code (zx σ n0 bf).1 8172) 4 = .ok (.ifCond .le 4, 3) := zd zm_8172 (by decide +kernel)
theorem d_8172_7 {σ : Nat → Nat} {n0 : Nat} {bf : ab_B} : decode (ab_code (zx σ n0 bf).1 8172) 7 = .ok (.return_, 1) := zd zm_8172 (by decide +kernel)
theorem d_8172_8 {σ : Nat → Nat} {n0 : Nat} {bf : ab_B} : decode (ab_code (zx σ n0 bf).1 8172) 8 = .ok (.aload_n 0, 1) := zd zm_8172 (by decide +kernel)
theorem d_8172_9 {σ : Nat → Nat} {n0 : Nat} {bf : ab_B} : decode (ab_code (zx σ n0 bf).1 8172) 9 = .ok (.getfield 484, 3) := zd zm_8172 (by decide +kernel)
theorem d_8172_12 {σ : Nat → Nat} {n0 : Nat} {bf : ab_B} : decode (ab_code (zx σ n0 bf).1 8172) 12 = .ok (.iconst 1, 1) := zd zm_8172 (by decide +kernel)
theorem d_8172_13 {σ : Nat → Nat} {n0 : Nat} {bf : ab_B} : decode (ab_code (zx σ n0 bf).1 8172) 13 = .ok (.if_icmp .eq 9, 3) := zd zm_8172 (by decide +kernel)
theorem d_8172_16 {σ : Nat → Nat} {n0 : Nat} {bf : ab_B} : decode (ab_code (zx σ n0 bf).1 8172) 16 = .ok (.aload_n 0, 1) := zd zm_8172 (by decide +kernel)
theorem d_8172_17 {σ : Nat → Nat} {n0 : Nat} {bf : ab_B} : decode (ab_code (zx σ n0 bf).1 8172) 17 = .ok (.iconst 2, 1) := zd zm_8172 (by decide +kernel)
theorem d_8172_18 {σ : Nat → Nat} {n0 : Nat} {bf : ab_B} : decode (ab_code (zx σ n0 bf).1 8172) 18 = .ok (.invokevirtual 541, 3) := zd zm_8172 (by decide +kernel)
theorem d_8172_21 {σ : Nat → Nat} {n0 : Nat} {bf : ab_B} : decode (ab_code (zx σ n0 bf).1 8172) 21 = .ok (.return_, 1) := zd zm_8172 (by decide +kernel)
theorem d_8172_22 {σ : Nat → Nat} {n0 : Nat} {bf : ab_B} : decode (ab_code (zx σ n0 bf).1 8172) 22 = .ok (.aload_n 0, 1) := zd zm_8172 (by decide +kernel)
theorem d_8172_23 {σ : Nat → Nat} {n0 : Nat} {bf : ab_B} : decode (ab_code (zx σ n0 bf).1 8172) 23 = .ok (.getfield 37, 3) := zd zm_8172 (by decide +kernel)
theorem d_8172_26 {σ : Nat → Nat} {n0 : Nat} {bf : ab_B} : decode (ab_code (zx σ n0 bf).1 8172) 26 = .ok (.aload_n 0, 1) := zd zm_8172 (by decide +kernel)
theorem d_8172_27 {σ : Nat → Nat} {n0 : Nat} {bf : ab_B} : decode (ab_code (zx σ n0 bf).1 8172) 27 = .ok (.getfield 494, 3) := zd zm_8172 (by decide +kernel)
theorem d_8172_30 {σ : Nat → Nat} {n0 : Nat} {bf : ab_B} : decode (ab_code (zx σ n0 bf).1 8172) 30 = .ok (.iaload, 1) := zd zm_8172 (by decide +kernel)
theorem d_8172_31 {σ : Nat → Nat} {n0 : Nat} {bf : ab_B} : decode (ab_code (zx σ n0 bf).1 8172) 31 = .ok (.istore_n 2, 1) := zd zm_8172 (by decide +kernel)
theorem d_8172_32 {σ : Nat → Nat} {n0 : Nat} {bf : ab_B} : decode (ab_code (zx σ n0 bf).1 8172) 32 = .ok (.iload_n 2, 1) := zd zm_8172 (by decide +kernel)
theorem d_8172_33 {σ : Nat → Nat} {n0 : Nat} {bf : ab_B} : decode (ab_code (zx σ n0 bf).1 8172) 33 = .ok (.ifCond .eq 52, 3) := zd zm_8172 (by decide +kernel)
theorem d_8172_36 {σ : Nat → Nat} {n0 : Nat} {bf : ab_B} : decode (ab_code (zx σ n0 bf).1 8172) 36 = .ok (.aload_n 0, 1) := zd zm_8172 (by decide +kernel)
theorem d_8172_37 {σ : Nat → Nat} {n0 : Nat} {bf : ab_B} : decode (ab_code (zx σ n0 bf).1 8172) 37 = .ok (.getfield 44, 3) := zd zm_8172 (by decide +kernel)
theorem d_8172_40 {σ : Nat → Nat} {n0 : Nat} {bf : ab_B} : decode (ab_code (zx σ n0 bf).1 8172) 40 = .ok (.iload_n 2, 1) := zd zm_8172 (by decide +kernel)
theorem d_8172_41 {σ : Nat → Nat} {n0 : Nat} {bf : ab_B} : decode (ab_code (zx σ n0 bf).1 8172) 41 = .ok (.baload, 1) := zd zm_8172 (by decide +kernel)
theorem d_8172_42 {σ : Nat → Nat} {n0 : Nat} {bf : ab_B} : decode (ab_code (zx σ n0 bf).1 8172) 42 = .ok (.iconst 4, 1) := zd zm_8172 (by decide +kernel)
theorem d_8172_43 {σ : Nat → Nat} {n0 : Nat} {bf : ab_B} : decode (ab_code (zx σ n0 bf).1 8172) 43 = .ok (.if_icmp .ne 42, 3) := zd zm_8172 (by decide +kernel)
theorem d_8172_46 {σ : Nat → Nat} {n0 : Nat} {bf : ab_B} : decode (ab_code (zx σ n0 bf).1 8172) 46 = .ok (.aload_n 0, 1) := zd zm_8172 (by decide +kernel)
theorem d_8172_47 {σ : Nat → Nat} {n0 : Nat} {bf : ab_B} : decode (ab_code (zx σ n0 bf).1 8172) 47 = .ok (.getfield 56, 3) := zd zm_8172 (by decide +kernel)
theorem d_8172_50 {σ : Nat → Nat} {n0 : Nat} {bf : ab_B} : decode (ab_code (zx σ n0 bf).1 8172) 50 = .ok (.iload_n 2, 1) := zd zm_8172 (by decide +kernel)
theorem d_8172_51 {σ : Nat → Nat} {n0 : Nat} {bf : ab_B} : decode (ab_code (zx σ n0 bf).1 8172) 51 = .ok (.iaload, 1) := zd zm_8172 (by decide +kernel)
theorem d_8172_52 {σ : Nat → Nat} {n0 : Nat} {bf : ab_B} : decode (ab_code (zx σ n0 bf).1 8172) 52 = .ok (.aload_n 0, 1) := zd zm_8172 (by decide +kernel)
theorem d_8172_53 {σ : Nat → Nat} {n0 : Nat} {bf : ab_B} : decode (ab_code (zx σ n0 bf).1 8172) 53 = .ok (.getfield 722, 3) := zd zm_8172 (by decide +kernel)
theorem d_8172_56 {σ : Nat → Nat} {n0 : Nat} {bf : ab_B} : decode (ab_code (zx σ n0 bf).1 8172) 56 = .ok (.if_icmp .ne 29, 3) := zd zm_8172 (by decide +kernel)
theorem d_8172_59 {σ : Nat → Nat} {n0 : Nat} {bf : ab_B} : decode (ab_code (zx σ n0 bf).1 8172) 59 = .ok (.aload_n 0, 1) := zd zm_8172 (by decide +kernel)
theorem d_8172_60 {σ : Nat → Nat} {n0 : Nat} {bf : ab_B} : decode (ab_code (zx σ n0 bf).1 8172) 60 = .ok (.getfield 53, 3) := zd zm_8172 (by decide +kernel)
theorem d_8172_63 {σ : Nat → Nat} {n0 : Nat} {bf : ab_B} : decode (ab_code (zx σ n0 bf).1 8172) 63 = .ok (.iload_n 2, 1) := zd zm_8172 (by decide +kernel)
theorem d_8172_64 {σ : Nat → Nat} {n0 : Nat} {bf : ab_B} : decode (ab_code (zx σ n0 bf).1 8172) 64 = .ok (.iaload, 1) := zd zm_8172 (by decide +kernel)
theorem d_8172_65 {σ : Nat → Nat} {n0 : Nat} {bf : ab_B} : decode (ab_code (zx σ n0 bf).1 8172) 65 = .ok (.ldc_w 943, 3) := zd zm_8172 (by decide +kernel)
theorem d_8172_68 {σ : Nat → Nat} {n0 : Nat} {bf : ab_B} : decode (ab_code (zx σ n0 bf).1 8172) 68 = .ok (.iand, 1) := zd zm_8172 (by decide +kernel)
theorem d_8172_69 {σ : Nat → Nat} {n0 : Nat} {bf : ab_B} : decode (ab_code (zx σ n0 bf).1 8172) 69 = .ok (.ifCond .eq 16, 3) := zd zm_8172 (by decide +kernel)
theorem d_8172_72 {σ : Nat → Nat} {n0 : Nat} {bf : ab_B} : decode (ab_code (zx σ n0 bf).1 8172) 72 = .ok (.aload_n 0, 1) := zd zm_8172 (by decide +kernel)
theorem d_8172_73 {σ : Nat → Nat} {n0 : Nat} {bf : ab_B} : decode (ab_code (zx σ n0 bf).1 8172) 73 = .ok (.aload_n 0, 1) := zd zm_8172 (by decide +kernel)
theorem d_8172_74 {σ : Nat → Nat} {n0 : Nat} {bf : ab_B} : decode (ab_code (zx σ n0 bf).1 8172) 74 = .ok (.getfield 50, 3) := zd zm_8172 (by decide +kernel)
theorem d_8172_77 {σ : Nat → Nat} {n0 : Nat} {bf : ab_B} : decode (ab_code (zx σ n0 bf).1 8172) 77 = .ok (.iload_n 2, 1) := zd zm_8172 (by decide +kernel)
theorem d_8172_78 {σ : Nat → Nat} {n0 : Nat} {bf : ab_B} : decode (ab_code (zx σ n0 bf).1 8172) 78 = .ok (.iaload, 1) := zd zm_8172 (by decide +kernel)
theorem d_8172_79 {σ : Nat → Nat} {n0 : Nat} {bf : ab_B} : decode (ab_code (zx σ n0 bf).1 8172) 79 = .ok (.invokevirtual 564, 3) := zd zm_8172 (by decide +kernel)
theorem d_8172_82 {σ : Nat → Nat} {n0 : Nat} {bf : ab_B} : decode (ab_code (zx σ n0 bf).1 8172) 82 = .ok (.ifCond .ne 9, 3) := zd zm_8172 (by decide +kernel)
theorem d_8172_85 {σ : Nat → Nat} {n0 : Nat} {bf : ab_B} : decode (ab_code (zx σ n0 bf).1 8172) 85 = .ok (.aload_n 0, 1) := zd zm_8172 (by decide +kernel)
theorem d_8172_86 {σ : Nat → Nat} {n0 : Nat} {bf : ab_B} : decode (ab_code (zx σ n0 bf).1 8172) 86 = .ok (.iconst 3, 1) := zd zm_8172 (by decide +kernel)
theorem d_8172_87 {σ : Nat → Nat} {n0 : Nat} {bf : ab_B} : decode (ab_code (zx σ n0 bf).1 8172) 87 = .ok (.invokevirtual 541, 3) := zd zm_8172 (by decide +kernel)
theorem d_8172_90 {σ : Nat → Nat} {n0 : Nat} {bf : ab_B} : decode (ab_code (zx σ n0 bf).1 8172) 90 = .ok (.return_, 1) := zd zm_8172 (by decide +kernel)
theorem d_8172_91 {σ : Nat → Nat} {n0 : Nat} {bf : ab_B} : decode (ab_code (zx σ n0 bf).1 8172) 91 = .ok (.aload_n 0, 1) := zd zm_8172 (by decide +kernel)
theorem d_8172_92 {σ : Nat → Nat} {n0 : Nat} {bf : ab_B} : decode (ab_code (zx σ n0 bf).1 8172) 92 = .ok (.invokevirtual 538, 3) := zd zm_8172 (by decide +kernel)
theorem d_8172_95 {σ : Nat → Nat} {n0 : Nat} {bf : ab_B} : decode (ab_code (zx σ n0 bf).1 8172) 95 = .ok (.aload_n 0, 1) := zd zm_8172 (by decide +kernel)
theorem d_8172_96 {σ : Nat → Nat} {n0 : Nat} {bf : ab_B} : decode (ab_code (zx σ n0 bf).1 8172) 96 = .ok (.bipush 20, 2) := zd zm_8172 (by decide +kernel)
theorem d_8172_98 {σ : Nat → Nat} {n0 : Nat} {bf : ab_B} : decode (ab_code (zx σ n0 bf).1 8172) 98 = .ok (.invokevirtual 746, 3) := zd zm_8172 (by decide +kernel)
theorem d_8172_101 {σ : Nat → Nat} {n0 : Nat} {bf : ab_B} : decode (ab_code (zx σ n0 bf).1 8172) 101 = .ok (.aload_n 0, 1) := zd zm_8172 (by decide +kernel)
theorem d_8172_102 {σ : Nat → Nat} {n0 : Nat} {bf : ab_B} : decode (ab_code (zx σ n0 bf).1 8172) 102 = .ok (.bipush 114, 2) := zd zm_8172 (by decide +kernel)
theorem d_8172_104 {σ : Nat → Nat} {n0 : Nat} {bf : ab_B} : decode (ab_code (zx σ n0 bf).1 8172) 104 = .ok (.iload_n 2, 1) := zd zm_8172 (by decide +kernel)
theorem d_8172_105 {σ : Nat → Nat} {n0 : Nat} {bf : ab_B} : decode (ab_code (zx σ n0 bf).1 8172) 105 = .ok (.iload_n 1, 1) := zd zm_8172 (by decide +kernel)
theorem d_8172_106 {σ : Nat → Nat} {n0 : Nat} {bf : ab_B} : decode (ab_code (zx σ n0 bf).1 8172) 106 = .ok (.iconst 0, 1) := zd zm_8172 (by decide +kernel)
theorem d_8172_107 {σ : Nat → Nat} {n0 : Nat} {bf : ab_B} : decode (ab_code (zx σ n0 bf).1 8172) 107 = .ok (.invokevirtual 649, 3) := zd zm_8172 (by decide +kernel)
theorem d_8172_110 {σ : Nat → Nat} {n0 : Nat} {bf : ab_B} : decode (ab_code (zx σ n0 bf).1 8172) 110 = .ok (.aload_n 0, 1) := zd zm_8172 (by decide +kernel)
theorem d_8172_111 {σ : Nat → Nat} {n0 : Nat} {bf : ab_B} : decode (ab_code (zx σ n0 bf).1 8172) 111 = .ok (.iconst 2, 1) := zd zm_8172 (by decide +kernel)
theorem d_8172_112 {σ : Nat → Nat} {n0 : Nat} {bf : ab_B} : decode (ab_code (zx σ n0 bf).1 8172) 112 = .ok (.iconst 0, 1) := zd zm_8172 (by decide +kernel)
theorem d_8172_113 {σ : Nat → Nat} {n0 : Nat} {bf : ab_B} : decode (ab_code (zx σ n0 bf).1 8172) 113 = .ok (.iconst 0, 1) := zd zm_8172 (by decide +kernel)
theorem d_8172_114 {σ : Nat → Nat} {n0 : Nat} {bf : ab_B} : decode (ab_code (zx σ n0 bf).1 8172) 114 = .ok (.iconst 0, 1) := zd zm_8172 (by decide +kernel)
theorem d_8172_115 {σ : Nat → Nat} {n0 : Nat} {bf : ab_B} : decode (ab_code (zx σ n0 bf).1 8172) 115 = .ok (.invokevirtual 649, 3) := zd zm_8172 (by decide +kernel)
theorem d_8172_118 {σ : Nat → Nat} {n0 : Nat} {bf : ab_B} : decode (ab_code (zx σ n0 bf).1 8172) 118 = .ok (.return_, 1) := zd zm_8172 (by decide +kernel)
def w_X9_forHere_85 (X : zs_X) (d : Nat) (p0 : Nat) (S : zs_T) (Q : zs_Q) : Prop :=
  (zs_K S p0 = some (.inl 8) ∧ zs_C X d 8027 [.ref p0, .int (3 : Int32)] S (zs_kV (fun S2 => (Q (.returned none) S2)) Q))
theorem u_X9_forHere_85 {σ : Nat → Nat} {n0 : Nat} {bf : ab_B} {d : Nat} {p0 : Nat} {S : zs_T} {Q : zs_Q} (hB : zt_B bf) (h : w_X9_forHere_85 (zx σ n0 bf) d p0 S Q) : zs_U (zx σ n0 bf) d 8172 85 [(0, .ref p0)] [] S Q := by
  unfold w_X9_forHere_85 at h
  refine zu_aload_n d_8172_85 rfl (zs_ra _) ?_
  refine zu_iconst d_8172_86 zi_3 ?_
  obtain ⟨k1, h⟩ := h
  refine zc_8_541 (x0 := (3 : Int32)) hB rfl k1 d_8172_87 (Nat.le_of_ble_eq_true rfl) h (fun S2 h => ?_)
  exact zu_vret d_8172_90 zr_8172 h
def w_X9_forHere_118 (X : zs_X) (d : Nat)  (S : zs_T) (Q : zs_Q) : Prop :=
  (Q (.returned none) S)
theorem u_X9_forHere_118 {σ : Nat → Nat} {n0 : Nat} {bf : ab_B} {d : Nat}  {S : zs_T} {Q : zs_Q} (hB : zt_B bf) (h : w_X9_forHere_118 (zx σ n0 bf) d  S Q) : zs_U (zx σ n0 bf) d 8172 118 [] [] S Q := by
  unfold w_X9_forHere_118 at h
  exact zu_vret d_8172_118 zr_8172 h
def w_X9_forHere_91 (X : zs_X) (d : Nat) (p0 : Nat) (p1 : Int32) (p2 : Int32) (S : zs_T) (Q : zs_Q) : Prop :=
  (zs_K S p0 = some (.inl 8) ∧ zs_C X d 8014 [.ref p0] S (zs_kV (fun S2 => (zs_K S2 p0 = some (.inl 8) ∧ zs_C X d 8028 [.ref p0, .int (20 : Int32)] S2 (zs_kV (fun S5 => (zs_K S5 p0 = some (.inl 8) ∧ zs_C X d 8030 [.ref p0, .int (114 : Int32), .int p2, .int p1, .int (0 : Int32)] S5 (zs_kV (fun S8 => (zs_K S8 p0 = some (.inl 8) ∧ zs_C X d 8030 [.ref p0, .int (2 : Int32), .int (0 : Int32), .int (0 : Int32), .int (0 : Int32)] S8 (zs_kV (fun S11 => w_X9_forHere_118 X d  S11 Q) Q))) Q))) Q))) Q))
theorem u_X9_forHere_91 {σ : Nat → Nat} {n0 : Nat} {bf : ab_B} {d : Nat} {p0 : Nat} {p1 : Int32} {p2 : Int32} {S : zs_T} {Q : zs_Q} (hB : zt_B bf) (h : w_X9_forHere_91 (zx σ n0 bf) d p0 p1 p2 S Q) : zs_U (zx σ n0 bf) d 8172 91 [(0, .ref p0), (1, .int p1), (2, .int p2)] [] S Q := by
  unfold w_X9_forHere_91 at h
  refine zu_aload_n d_8172_91 rfl (zs_ra _) ?_
  obtain ⟨k1, h⟩ := h
  refine zc_8_538  hB rfl k1 d_8172_92 (Nat.le_of_ble_eq_true rfl) h (fun S2 h => ?_)
  refine zu_aload_n d_8172_95 rfl (zs_ra _) ?_
  refine zu_bipush d_8172_96 zj_20 ?_
  obtain ⟨k4, h⟩ := h
  refine zc_8_746 (x0 := (20 : Int32)) hB rfl k4 d_8172_98 (Nat.le_of_ble_eq_true rfl) h (fun S5 h => ?_)
  refine zu_aload_n d_8172_101 rfl (zs_ra _) ?_
  refine zu_bipush d_8172_102 zj_114 ?_
  refine zu_iload_n d_8172_104 rfl ?_
  refine zu_iload_n d_8172_105 rfl ?_
  refine zu_iconst d_8172_106 zi_0 ?_
  obtain ⟨k7, h⟩ := h
  refine zc_8_649 (x0 := (114 : Int32)) (x1 := p2) (x2 := p1) (x3 := (0 : Int32)) hB rfl k7 d_8172_107 (Nat.le_of_ble_eq_true rfl) h (fun S8 h => ?_)
  refine zu_aload_n d_8172_110 rfl (zs_ra _) ?_
  refine zu_iconst d_8172_111 zi_2 ?_
  refine zu_iconst d_8172_112 zi_0 ?_
  refine zu_iconst d_8172_113 zi_0 ?_
  refine zu_iconst d_8172_114 zi_0 ?_
  obtain ⟨k10, h⟩ := h
  refine zc_8_649 (x0 := (2 : Int32)) (x1 := (0 : Int32)) (x2 := (0 : Int32)) (x3 := (0 : Int32)) hB rfl k10 d_8172_115 (Nat.le_of_ble_eq_true rfl) h (fun S11 h => ?_)
  exact (u_X9_forHere_118 hB h).weak trivial
def w_X9_forHere_46 (X : zs_X) (d : Nat) (p0 : Nat) (p1 : Int32) (p2 : Int32) (S : zs_T) (Q : zs_Q) : Prop :=
  (zs_K S p0 = some (.inl 8) ∧ ∃ b2, (zs_R S 8028 p0) = some b2 ∧ zs_A S b2 0 p2 ∧ ((¬ (zs_i S b2 p2.toNatClampNeg) = (zs_I S 8113 p0) → w_X9_forHere_85 X d p0 S Q) ∧ (¬ (¬ (zs_i S b2 p2.toNatClampNeg) = (zs_I S 8113 p0)) → (∃ b6, (zs_R S 8027 p0) = some b6 ∧ zs_A S b6 0 p2 ∧ ((((zs_i S b6 p2.toNatClampNeg) &&& (131072 : Int32)) = 0 → w_X9_forHere_85 X d p0 S Q) ∧ (¬ (((zs_i S b6 p2.toNatClampNeg) &&& (131072 : Int32)) = 0) → (∃ b10, (zs_R S 8026 p0) = some b10 ∧ zs_A S b10 0 p2 ∧ zs_C X d 8036 [.ref p0, .int (zs_i S b10 p2.toNatClampNeg)] S (zs_kI (fun v14 S13 => (((¬ v14 = 0 → w_X9_forHere_91 X d p0 p1 p2 S13 Q) ∧ (¬ (¬ v14 = 0) → w_X9_forHere_85 X d p0 S13 Q)))) Q))))))))
theorem u_X9_forHere_46 {σ : Nat → Nat} {n0 : Nat} {bf : ab_B} {d : Nat} {p0 : Nat} {p1 : Int32} {p2 : Int32} {S : zs_T} {Q : zs_Q} (hB : zt_B bf) (h : w_X9_forHere_46 (zx σ n0 bf) d p0 p1 p2 S Q) : zs_U (zx σ n0 bf) d 8172 46 [(0, .ref p0), (1, .int p1), (2, .int p2)] [] S Q := by
  unfold w_X9_forHere_46 at h
  refine zu_aload_n d_8172_46 rfl (zs_ra _) ?_
  obtain ⟨k1, h⟩ := h
  refine zg_8_56 rfl d_8172_47 k1 ?_
  refine zu_iload_n d_8172_50 rfl ?_
  obtain ⟨b2, e3, h⟩ := h
  refine zs_stk1 (zs_rfe e3) ?_
  obtain ⟨k4, h⟩ := h
  refine zu_iald (k := 0) d_8172_51 rfl rfl k4 ?_
  refine zu_aload_n d_8172_52 rfl (zs_ra _) ?_
  refine zg_8_722 rfl d_8172_53 k1 ?_
  refine zu_cmpne (t := 85) d_8172_56 rfl (fun c5 => ?_) (fun c5 => ?_)
  · have h := h.1 c5
    exact (u_X9_forHere_85 hB h).weak ⟨rfl, trivial⟩
  · have h := h.2 c5
    refine zu_aload_n d_8172_59 rfl (zs_ra _) ?_
    refine zg_8_53 rfl d_8172_60 k1 ?_
    refine zu_iload_n d_8172_63 rfl ?_
    obtain ⟨b6, e7, h⟩ := h
    refine zs_stk1 (zs_rfe e7) ?_
    obtain ⟨k8, h⟩ := h
    refine zu_iald (k := 0) d_8172_64 rfl rfl k8 ?_
    refine zlw_8_943 rfl d_8172_65 ?_
    refine zu_stk d_8172_68 rfl rfl ?_
    refine zu_ifeq (t := 85) d_8172_69 rfl (fun c9 => ?_) (fun c9 => ?_)
    · have h := h.1 c9
      exact (u_X9_forHere_85 hB h).weak ⟨rfl, trivial⟩
    · have h := h.2 c9
      refine zu_aload_n d_8172_72 rfl (zs_ra _) ?_
      refine zu_aload_n d_8172_73 rfl (zs_ra _) ?_
      refine zg_8_50 rfl d_8172_74 k1 ?_
      refine zu_iload_n d_8172_77 rfl ?_
      obtain ⟨b10, e11, h⟩ := h
      refine zs_stk1 (zs_rfe e11) ?_
      obtain ⟨k12, h⟩ := h
      refine zu_iald (k := 0) d_8172_78 rfl rfl k12 ?_
      refine zc_8_564 (x0 := (zs_i S b10 p2.toNatClampNeg)) hB rfl k1 d_8172_79 (Nat.le_of_ble_eq_true rfl) h (fun v14 S13 h => ?_)
      refine zu_ifne (t := 91) d_8172_82 rfl (fun c15 => ?_) (fun c15 => ?_)
      · have h := h.1 c15
        exact (u_X9_forHere_91 hB h).weak ⟨rfl, rfl, rfl, trivial⟩
      · have h := h.2 c15
        exact (u_X9_forHere_85 hB h).weak ⟨rfl, trivial⟩
def w_X9_forHere (X : zs_X) (d : Nat) (p0 : Nat) (p1 : Int32) (S : zs_T) (Q : zs_Q) : Prop :=
  (zs_K S p0 = some (.inl 8) ∧ (((zs_I S 8010 p0) ≤ 0 → ((((zs_I S 8006 p0) = (1 : Int32) → (∃ b4, (zs_R S 8019 p0) = some b4 ∧ zs_A S b4 0 (zs_I S 8009 p0) ∧ (((zs_i S b4 (zs_I S 8009 p0).toNatClampNeg) = 0 → w_X9_forHere_85 X d p0 S Q) ∧ (¬ ((zs_i S b4 (zs_I S 8009 p0).toNatClampNeg) = 0) → (∃ b8, (zs_R S 8024 p0) = some b8 ∧ zs_A S b8 1 (zs_i S b4 (zs_I S 8009 p0).toNatClampNeg) ∧ ((¬ (zs_i S b8 (zs_i S b4 (zs_I S 8009 p0).toNatClampNeg).toNatClampNeg) = (4 : Int32) → w_X9_forHere_85 X d p0 S Q) ∧ (¬ (¬ (zs_i S b8 (zs_i S b4 (zs_I S 8009 p0).toNatClampNeg).toNatClampNeg) = (4 : Int32)) → w_X9_forHere_46 X d p0 p1 (zs_i S b4 (zs_I S 8009 p0).toNatClampNeg) S Q))))))) ∧ (¬ ((zs_I S 8006 p0) = (1 : Int32)) → (zs_C X d 8027 [.ref p0, .int (2 : Int32)] S (zs_kV (fun S12 => (Q (.returned none) S12)) Q)))))) ∧ (¬ ((zs_I S 8010 p0) ≤ 0) → (Q (.returned none) S))))
theorem u_X9_forHere {σ : Nat → Nat} {n0 : Nat} {bf : ab_B} {d : Nat} {p0 : Nat} {p1 : Int32} {S : zs_T} {Q : zs_Q} (hB : zt_B bf) (hd : 1 ≤ d) (h : w_X9_forHere (zx σ n0 bf) (d - 1) p0 p1 S Q) : zs_C (zx σ n0 bf) d 8172 [.ref p0, .int p1] S Q := by
  have hL : lv_args 0 [.ref p0, .int p1] = [(0, .ref p0), (1, .int p1)] := rfl
  refine zs_C.of1 (hB.2 8172 (by decide) (by decide)) hd (by rw [hL]; exact zs_sub_self _ (by exact ⟨rfl, rfl, trivial⟩)) ?_
  rw [hL]
  clear hL
  unfold w_X9_forHere at h
  refine zu_aload_n d_8172_0 rfl (zs_ra _) ?_
  obtain ⟨k1, h⟩ := h
  refine zg_8_444 rfl d_8172_1 k1 ?_
  refine zu_ifle (t := 8) d_8172_4 rfl (fun c2 => ?_) (fun c2 => ?_)
  · have h := h.1 c2
    refine zu_aload_n d_8172_8 rfl (zs_ra _) ?_
    refine zg_8_484 rfl d_8172_9 k1 ?_
    refine zu_iconst d_8172_12 zi_1 ?_
    refine zu_cmpeq (t := 22) d_8172_13 rfl (fun c3 => ?_) (fun c3 => ?_)
    · have h := h.1 c3
      refine zu_aload_n d_8172_22 rfl (zs_ra _) ?_
      refine zg_8_37 rfl d_8172_23 k1 ?_
      refine zu_aload_n d_8172_26 rfl (zs_ra _) ?_
      refine zg_8_494 rfl d_8172_27 k1 ?_
      obtain ⟨b4, e5, h⟩ := h
      refine zs_stk1 (zs_rfe e5) ?_
      obtain ⟨k6, h⟩ := h
      refine zu_iald (k := 0) d_8172_30 rfl rfl k6 ?_
      refine zu_istore_n d_8172_31 (zs_lt zq_8172 rfl) ?_
      refine zu_iload_n d_8172_32 rfl ?_
      refine zu_ifeq (t := 85) d_8172_33 rfl (fun c7 => ?_) (fun c7 => ?_)
      · have h := h.1 c7
        exact (u_X9_forHere_85 hB h).weak ⟨rfl, trivial⟩
      · have h := h.2 c7
        refine zu_aload_n d_8172_36 rfl (zs_ra _) ?_
        refine zg_8_44 rfl d_8172_37 k1 ?_
        refine zu_iload_n d_8172_40 rfl ?_
        obtain ⟨b8, e9, h⟩ := h
        refine zs_stk1 (zs_rfe e9) ?_
        obtain ⟨k10, h⟩ := h
        refine zu_bald (k := 1) d_8172_41 rfl (Or.inl rfl) k10 ?_
        refine zu_iconst d_8172_42 zi_4 ?_
        refine zu_cmpne (t := 85) d_8172_43 rfl (fun c11 => ?_) (fun c11 => ?_)
        · have h := h.1 c11
          exact (u_X9_forHere_85 hB h).weak ⟨rfl, trivial⟩
        · have h := h.2 c11
          exact (u_X9_forHere_46 hB h).weak ⟨rfl, rfl, rfl, trivial⟩
    · have h := h.2 c3
      refine zu_aload_n d_8172_16 rfl (zs_ra _) ?_
      refine zu_iconst d_8172_17 zi_2 ?_
      refine zc_8_541 (x0 := (2 : Int32)) hB rfl k1 d_8172_18 (Nat.le_of_ble_eq_true rfl) h (fun S12 h => ?_)
      exact zu_vret d_8172_21 zr_8172 h
  · have h := h.2 c2
    exact zu_vret d_8172_7 zr_8172 h
/-! SchemaPascalModel.assign()V -/
theorem zm_8173 {σ : Nat → Nat} {n0 : Nat} {bf : ab_B} : ab_code (zx σ n0 bf).1 8173 = prog_17_method_164_code := rfl
theorem zq_8173 {σ : Nat → Nat} {n0 : Nat} {bf : ab_B} : ab_maxL (zx σ n0 bf).1 8173 = 2 := rfl
theorem zr_8173 {σ : Nat → Nat} {n0 : Nat} {bf : ab_B} : ab_ret (zx σ n0 bf).1 8173 = (Option.none : Option Jvm.ClassFile.FieldType) := rfl
theorem d_8173_0 {σ : Nat → Nat} {n0 : Nat} {bf : ab_B} : decode (ab_code (zx σ n0 bf).1 8173) 0 = .ok (.aload_n 0, 1) := zd zm_8173 (by decide +kernel)
theorem d_8173_1 {σ : Nat → Nat} {n0 : Nat} {bf : ab_B} : decode (ab_code (zx σ n0 bf).1 8173) 1 = .ok (.getfield 444, 3) := zd zm_8173 (by decide +kernel)
theorem d_8173_4 {σ : Nat → Nat} {n0 : Nat} {bf : ab_B} : decode (ab_code (zx σ n0 bf).1 8173) 4 = .ok (.ifCond .le 4, 3) := zd zm_8173 (by decide +kernel)
theorem d_8173_7 {σ : Nat → Nat} {n0 : Nat} {bf : ab_B} : decode (ab_code (zx σ n0 bf).1 8173) 7 = .ok (.return_, 1) := zd zm_8173 (by decide +kernel)
theorem d_8173_8 {σ : Nat → Nat} {n0 : Nat} {bf : ab_B} : decode (ab_code (zx σ n0 bf).1 8173) 8 = .ok (.aload_n 0, 1) := zd zm_8173 (by decide +kernel)
theorem d_8173_9 {σ : Nat → Nat} {n0 : Nat} {bf : ab_B} : decode (ab_code (zx σ n0 bf).1 8173) 9 = .ok (.getfield 653, 3) := zd zm_8173 (by decide +kernel)
theorem d_8173_12 {σ : Nat → Nat} {n0 : Nat} {bf : ab_B} : decode (ab_code (zx σ n0 bf).1 8173) 12 = .ok (.iconst 1, 1) := zd zm_8173 (by decide +kernel)
theorem d_8173_13 {σ : Nat → Nat} {n0 : Nat} {bf : ab_B} : decode (ab_code (zx σ n0 bf).1 8173) 13 = .ok (.isub, 1) := zd zm_8173 (by decide +kernel)
theorem d_8173_14 {σ : Nat → Nat} {n0 : Nat} {bf : ab_B} : decode (ab_code (zx σ n0 bf).1 8173) 14 = .ok (.istore_n 1, 1) := zd zm_8173 (by decide +kernel)
theorem d_8173_15 {σ : Nat → Nat} {n0 : Nat} {bf : ab_B} : decode (ab_code (zx σ n0 bf).1 8173) 15 = .ok (.aload_n 0, 1) := zd zm_8173 (by decide +kernel)
theorem d_8173_16 {σ : Nat → Nat} {n0 : Nat} {bf : ab_B} : decode (ab_code (zx σ n0 bf).1 8173) 16 = .ok (.getfield 194, 3) := zd zm_8173 (by decide +kernel)
theorem d_8173_19 {σ : Nat → Nat} {n0 : Nat} {bf : ab_B} : decode (ab_code (zx σ n0 bf).1 8173) 19 = .ok (.iload_n 1, 1) := zd zm_8173 (by decide +kernel)
theorem d_8173_20 {σ : Nat → Nat} {n0 : Nat} {bf : ab_B} : decode (ab_code (zx σ n0 bf).1 8173) 20 = .ok (.baload, 1) := zd zm_8173 (by decide +kernel)
theorem d_8173_21 {σ : Nat → Nat} {n0 : Nat} {bf : ab_B} : decode (ab_code (zx σ n0 bf).1 8173) 21 = .ok (.ifCond .ne 9, 3) := zd zm_8173 (by decide +kernel)
theorem d_8173_24 {σ : Nat → Nat} {n0 : Nat} {bf : ab_B} : decode (ab_code (zx σ n0 bf).1 8173) 24 = .ok (.aload_n 0, 1) := zd zm_8173 (by decide +kernel)
theorem d_8173_25 {σ : Nat → Nat} {n0 : Nat} {bf : ab_B} : decode (ab_code (zx σ n0 bf).1 8173) 25 = .ok (.iconst 5, 1) := zd zm_8173 (by decide +kernel)
theorem d_8173_26 {σ : Nat → Nat} {n0 : Nat} {bf : ab_B} : decode (ab_code (zx σ n0 bf).1 8173) 26 = .ok (.invokevirtual 541, 3) := zd zm_8173 (by decide +kernel)
theorem d_8173_29 {σ : Nat → Nat} {n0 : Nat} {bf : ab_B} : decode (ab_code (zx σ n0 bf).1 8173) 29 = .ok (.return_, 1) := zd zm_8173 (by decide +kernel)
theorem d_8173_30 {σ : Nat → Nat} {n0 : Nat} {bf : ab_B} : decode (ab_code (zx σ n0 bf).1 8173) 30 = .ok (.aload_n 0, 1) := zd zm_8173 (by decide +kernel)
theorem d_8173_31 {σ : Nat → Nat} {n0 : Nat} {bf : ab_B} : decode (ab_code (zx σ n0 bf).1 8173) 31 = .ok (.bipush 20, 2) := zd zm_8173 (by decide +kernel)
theorem d_8173_33 {σ : Nat → Nat} {n0 : Nat} {bf : ab_B} : decode (ab_code (zx σ n0 bf).1 8173) 33 = .ok (.invokevirtual 535, 3) := zd zm_8173 (by decide +kernel)
theorem d_8173_36 {σ : Nat → Nat} {n0 : Nat} {bf : ab_B} : decode (ab_code (zx σ n0 bf).1 8173) 36 = .ok (.ifCond .ne 9, 3) := zd zm_8173 (by decide +kernel)
theorem d_8173_39 {σ : Nat → Nat} {n0 : Nat} {bf : ab_B} : decode (ab_code (zx σ n0 bf).1 8173) 39 = .ok (.aload_n 0, 1) := zd zm_8173 (by decide +kernel)
theorem d_8173_40 {σ : Nat → Nat} {n0 : Nat} {bf : ab_B} : decode (ab_code (zx σ n0 bf).1 8173) 40 = .ok (.iconst 2, 1) := zd zm_8173 (by decide +kernel)
theorem d_8173_41 {σ : Nat → Nat} {n0 : Nat} {bf : ab_B} : decode (ab_code (zx σ n0 bf).1 8173) 41 = .ok (.invokevirtual 541, 3) := zd zm_8173 (by decide +kernel)
theorem d_8173_44 {σ : Nat → Nat} {n0 : Nat} {bf : ab_B} : decode (ab_code (zx σ n0 bf).1 8173) 44 = .ok (.return_, 1) := zd zm_8173 (by decide +kernel)
theorem d_8173_45 {σ : Nat → Nat} {n0 : Nat} {bf : ab_B} : decode (ab_code (zx σ n0 bf).1 8173) 45 = .ok (.aload_n 0, 1) := zd zm_8173 (by decide +kernel)
theorem d_8173_46 {σ : Nat → Nat} {n0 : Nat} {bf : ab_B} : decode (ab_code (zx σ n0 bf).1 8173) 46 = .ok (.getfield 200, 3) := zd zm_8173 (by decide +kernel)
theorem d_8173_49 {σ : Nat → Nat} {n0 : Nat} {bf : ab_B} : decode (ab_code (zx σ n0 bf).1 8173) 49 = .ok (.iload_n 1, 1) := zd zm_8173 (by decide +kernel)
theorem d_8173_50 {σ : Nat → Nat} {n0 : Nat} {bf : ab_B} : decode (ab_code (zx σ n0 bf).1 8173) 50 = .ok (.iaload, 1) := zd zm_8173 (by decide +kernel)
theorem d_8173_51 {σ : Nat → Nat} {n0 : Nat} {bf : ab_B} : decode (ab_code (zx σ n0 bf).1 8173) 51 = .ok (.iconst 1, 1) := zd zm_8173 (by decide +kernel)
theorem d_8173_52 {σ : Nat → Nat} {n0 : Nat} {bf : ab_B} : decode (ab_code (zx σ n0 bf).1 8173) 52 = .ok (.iand, 1) := zd zm_8173 (by decide +kernel)
theorem d_8173_53 {σ : Nat → Nat} {n0 : Nat} {bf : ab_B} : decode (ab_code (zx σ n0 bf).1 8173) 53 = .ok (.ifCond .eq 9, 3) := zd zm_8173 (by decide +kernel)
theorem d_8173_56 {σ : Nat → Nat} {n0 : Nat} {bf : ab_B} : decode (ab_code (zx σ n0 bf).1 8173) 56 = .ok (.aload_n 0, 1) := zd zm_8173 (by decide +kernel)
theorem d_8173_57 {σ : Nat → Nat} {n0 : Nat} {bf : ab_B} : decode (ab_code (zx σ n0 bf).1 8173) 57 = .ok (.bipush 6, 2) := zd zm_8173 (by decide +kernel)
theorem d_8173_59 {σ : Nat → Nat} {n0 : Nat} {bf : ab_B} : decode (ab_code (zx σ n0 bf).1 8173) 59 = .ok (.invokevirtual 541, 3) := zd zm_8173 (by decide +kernel)
theorem d_8173_62 {σ : Nat → Nat} {n0 : Nat} {bf : ab_B} : decode (ab_code (zx σ n0 bf).1 8173) 62 = .ok (.aload_n 0, 1) := zd zm_8173 (by decide +kernel)
theorem d_8173_63 {σ : Nat → Nat} {n0 : Nat} {bf : ab_B} : decode (ab_code (zx σ n0 bf).1 8173) 63 = .ok (.bipush 104, 2) := zd zm_8173 (by decide +kernel)
theorem d_8173_65 {σ : Nat → Nat} {n0 : Nat} {bf : ab_B} : decode (ab_code (zx σ n0 bf).1 8173) 65 = .ok (.aload_n 0, 1) := zd zm_8173 (by decide +kernel)
theorem d_8173_66 {σ : Nat → Nat} {n0 : Nat} {bf : ab_B} : decode (ab_code (zx σ n0 bf).1 8173) 66 = .ok (.getfield 450, 3) := zd zm_8173 (by decide +kernel)
theorem d_8173_69 {σ : Nat → Nat} {n0 : Nat} {bf : ab_B} : decode (ab_code (zx σ n0 bf).1 8173) 69 = .ok (.iconst 0, 1) := zd zm_8173 (by decide +kernel)
theorem d_8173_70 {σ : Nat → Nat} {n0 : Nat} {bf : ab_B} : decode (ab_code (zx σ n0 bf).1 8173) 70 = .ok (.iconst 0, 1) := zd zm_8173 (by decide +kernel)
theorem d_8173_71 {σ : Nat → Nat} {n0 : Nat} {bf : ab_B} : decode (ab_code (zx σ n0 bf).1 8173) 71 = .ok (.invokevirtual 649, 3) := zd zm_8173 (by decide +kernel)
theorem d_8173_74 {σ : Nat → Nat} {n0 : Nat} {bf : ab_B} : decode (ab_code (zx σ n0 bf).1 8173) 74 = .ok (.aload_n 0, 1) := zd zm_8173 (by decide +kernel)
theorem d_8173_75 {σ : Nat → Nat} {n0 : Nat} {bf : ab_B} : decode (ab_code (zx σ n0 bf).1 8173) 75 = .ok (.iconst 2, 1) := zd zm_8173 (by decide +kernel)
theorem d_8173_76 {σ : Nat → Nat} {n0 : Nat} {bf : ab_B} : decode (ab_code (zx σ n0 bf).1 8173) 76 = .ok (.iconst 0, 1) := zd zm_8173 (by decide +kernel)
theorem d_8173_77 {σ : Nat → Nat} {n0 : Nat} {bf : ab_B} : decode (ab_code (zx σ n0 bf).1 8173) 77 = .ok (.iconst 0, 1) := zd zm_8173 (by decide +kernel)
theorem d_8173_78 {σ : Nat → Nat} {n0 : Nat} {bf : ab_B} : decode (ab_code (zx σ n0 bf).1 8173) 78 = .ok (.iconst 0, 1) := zd zm_8173 (by decide +kernel)
theorem d_8173_79 {σ : Nat → Nat} {n0 : Nat} {bf : ab_B} : decode (ab_code (zx σ n0 bf).1 8173) 79 = .ok (.invokevirtual 649, 3) := zd zm_8173 (by decide +kernel)
theorem d_8173_82 {σ : Nat → Nat} {n0 : Nat} {bf : ab_B} : decode (ab_code (zx σ n0 bf).1 8173) 82 = .ok (.aload_n 0, 1) := zd zm_8173 (by decide +kernel)
theorem d_8173_83 {σ : Nat → Nat} {n0 : Nat} {bf : ab_B} : decode (ab_code (zx σ n0 bf).1 8173) 83 = .ok (.invokevirtual 538, 3) := zd zm_8173 (by decide +kernel)
theorem d_8173_86 {σ : Nat → Nat} {n0 : Nat} {bf : ab_B} : decode (ab_code (zx σ n0 bf).1 8173) 86 = .ok (.return_, 1) := zd zm_8173 (by decide +kernel)
def w_X9_assign_29 (X : zs_X) (d : Nat)  (S : zs_T) (Q : zs_Q) : Prop :=
  (Q (.returned none) S)
theorem u_X9_assign_29 {σ : Nat → Nat} {n0 : Nat} {bf : ab_B} {d : Nat}  {S : zs_T} {Q : zs_Q} (hB : zt_B bf) (h : w_X9_assign_29 (zx σ n0 bf) d  S Q) : zs_U (zx σ n0 bf) d 8173 29 [] [] S Q := by
  unfold w_X9_assign_29 at h
  exact zu_vret d_8173_29 zr_8173 h
def w_X9_assign_39 (X : zs_X) (d : Nat) (p0 : Nat) (S : zs_T) (Q : zs_Q) : Prop :=
  (zs_K S p0 = some (.inl 8) ∧ zs_C X d 8027 [.ref p0, .int (2 : Int32)] S (zs_kV (fun S2 => (Q (.returned none) S2)) Q))
theorem u_X9_assign_39 {σ : Nat → Nat} {n0 : Nat} {bf : ab_B} {d : Nat} {p0 : Nat} {S : zs_T} {Q : zs_Q} (hB : zt_B bf) (h : w_X9_assign_39 (zx σ n0 bf) d p0 S Q) : zs_U (zx σ n0 bf) d 8173 39 [(0, .ref p0)] [] S Q := by
  unfold w_X9_assign_39 at h
  refine zu_aload_n d_8173_39 rfl (zs_ra _) ?_
  refine zu_iconst d_8173_40 zi_2 ?_
  obtain ⟨k1, h⟩ := h
  refine zc_8_541 (x0 := (2 : Int32)) hB rfl k1 d_8173_41 (Nat.le_of_ble_eq_true rfl) h (fun S2 h => ?_)
  exact zu_vret d_8173_44 zr_8173 h
def w_X9_assign_62 (X : zs_X) (d : Nat) (p0 : Nat) (S : zs_T) (Q : zs_Q) : Prop :=
  (zs_K S p0 = some (.inl 8) ∧ zs_C X d 8030 [.ref p0, .int (104 : Int32), .int (zs_I S 8007 p0), .int (0 : Int32), .int (0 : Int32)] S (zs_kV (fun S2 => (zs_K S2 p0 = some (.inl 8) ∧ zs_C X d 8030 [.ref p0, .int (2 : Int32), .int (0 : Int32), .int (0 : Int32), .int (0 : Int32)] S2 (zs_kV (fun S5 => (zs_K S5 p0 = some (.inl 8) ∧ zs_C X d 8014 [.ref p0] S5 (zs_kV (fun S8 => (Q (.returned none) S8)) Q))) Q))) Q))
theorem u_X9_assign_62 {σ : Nat → Nat} {n0 : Nat} {bf : ab_B} {d : Nat} {p0 : Nat} {S : zs_T} {Q : zs_Q} (hB : zt_B bf) (h : w_X9_assign_62 (zx σ n0 bf) d p0 S Q) : zs_U (zx σ n0 bf) d 8173 62 [(0, .ref p0)] [] S Q := by
  unfold w_X9_assign_62 at h
  refine zu_aload_n d_8173_62 rfl (zs_ra _) ?_
  refine zu_bipush d_8173_63 zj_104 ?_
  refine zu_aload_n d_8173_65 rfl (zs_ra _) ?_
  obtain ⟨k1, h⟩ := h
  refine zg_8_450 rfl d_8173_66 k1 ?_
  refine zu_iconst d_8173_69 zi_0 ?_
  refine zu_iconst d_8173_70 zi_0 ?_
  refine zc_8_649 (x0 := (104 : Int32)) (x1 := (zs_I S 8007 p0)) (x2 := (0 : Int32)) (x3 := (0 : Int32)) hB rfl k1 d_8173_71 (Nat.le_of_ble_eq_true rfl) h (fun S2 h => ?_)
  refine zu_aload_n d_8173_74 rfl (zs_ra _) ?_
  refine zu_iconst d_8173_75 zi_2 ?_
  refine zu_iconst d_8173_76 zi_0 ?_
  refine zu_iconst d_8173_77 zi_0 ?_
  refine zu_iconst d_8173_78 zi_0 ?_
  obtain ⟨k4, h⟩ := h
  refine zc_8_649 (x0 := (2 : Int32)) (x1 := (0 : Int32)) (x2 := (0 : Int32)) (x3 := (0 : Int32)) hB rfl k4 d_8173_79 (Nat.le_of_ble_eq_true rfl) h (fun S5 h => ?_)
  refine zu_aload_n d_8173_82 rfl (zs_ra _) ?_
  obtain ⟨k7, h⟩ := h
  refine zc_8_538  hB rfl k7 d_8173_83 (Nat.le_of_ble_eq_true rfl) h (fun S8 h => ?_)
  exact zu_vret d_8173_86 zr_8173 h
def w_X9_assign_45 (X : zs_X) (d : Nat) (p0 : Nat) (p1 : Int32) (S : zs_T) (Q : zs_Q) : Prop :=
  (zs_K S p0 = some (.inl 8) ∧ ∃ b2, (zs_R S 8094 p0) = some b2 ∧ zs_A S b2 0 p1 ∧ ((((zs_i S b2 p1.toNatClampNeg) &&& (1 : Int32)) = 0 → w_X9_assign_62 X d p0 S Q) ∧ (¬ (((zs_i S b2 p1.toNatClampNeg) &&& (1 : Int32)) = 0) → (zs_C X d 8027 [.ref p0, .int (6 : Int32)] S (zs_kV (fun S6 => w_X9_assign_62 X d p0 S6 Q) Q)))))
theorem u_X9_assign_45 {σ : Nat → Nat} {n0 : Nat} {bf : ab_B} {d : Nat} {p0 : Nat} {p1 : Int32} {S : zs_T} {Q : zs_Q} (hB : zt_B bf) (h : w_X9_assign_45 (zx σ n0 bf) d p0 p1 S Q) : zs_U (zx σ n0 bf) d 8173 45 [(0, .ref p0), (1, .int p1)] [] S Q := by
  unfold w_X9_assign_45 at h
  refine zu_aload_n d_8173_45 rfl (zs_ra _) ?_
  obtain ⟨k1, h⟩ := h
  refine zg_8_200 rfl d_8173_46 k1 ?_
  refine zu_iload_n d_8173_49 rfl ?_
  obtain ⟨b2, e3, h⟩ := h
  refine zs_stk1 (zs_rfe e3) ?_
  obtain ⟨k4, h⟩ := h
  refine zu_iald (k := 0) d_8173_50 rfl rfl k4 ?_
  refine zu_iconst d_8173_51 zi_1 ?_
  refine zu_stk d_8173_52 rfl rfl ?_
  refine zu_ifeq (t := 62) d_8173_53 rfl (fun c5 => ?_) (fun c5 => ?_)
  · have h := h.1 c5
    exact (u_X9_assign_62 hB h).weak ⟨rfl, trivial⟩
  · have h := h.2 c5
    refine zu_aload_n d_8173_56 rfl (zs_ra _) ?_
    refine zu_bipush d_8173_57 zj_6 ?_
    refine zc_8_541 (x0 := (6 : Int32)) hB rfl k1 d_8173_59 (Nat.le_of_ble_eq_true rfl) h (fun S6 h => ?_)
    exact (u_X9_assign_62 hB h).weak ⟨rfl, trivial⟩
def w_X9_assign (X : zs_X) (d : Nat) (p0 : Nat) (S : zs_T) (Q : zs_Q) : Prop :=
  (zs_K S p0 = some (.inl 8) ∧ (((zs_I S 8010 p0) ≤ 0 → (∃ b3, (zs_R S 8092 p0) = some b3 ∧ zs_A S b3 2 ((zs_I S 8097 p0) - (1 : Int32)) ∧ ((¬ (zs_i S b3 ((zs_I S 8097 p0) - (1 : Int32)).toNatClampNeg) = 0 → (zs_C X d 8029 [.ref p0, .int (20 : Int32)] S (zs_kI (fun v8 S7 => (((¬ v8 = 0 → w_X9_assign_45 X d p0 ((zs_I S 8097 p0) - (1 : Int32)) S7 Q) ∧ (¬ (¬ v8 = 0) → w_X9_assign_39 X d p0 S7 Q)))) Q))) ∧ (¬ (¬ (zs_i S b3 ((zs_I S 8097 p0) - (1 : Int32)).toNatClampNeg) = 0) → (zs_C X d 8027 [.ref p0, .int (5 : Int32)] S (zs_kV (fun S10 => w_X9_assign_29 X d  S10 Q) Q)))))) ∧ (¬ ((zs_I S 8010 p0) ≤ 0) → (Q (.returned none) S))))
theorem u_X9_assign {σ : Nat → Nat} {n0 : Nat} {bf : ab_B} {d : Nat} {p0 : Nat} {S : zs_T} {Q : zs_Q} (hB : zt_B bf) (hd : 1 ≤ d) (h : w_X9_assign (zx σ n0 bf) (d - 1) p0 S Q) : zs_C (zx σ n0 bf) d 8173 [.ref p0] S Q := by
  have hL : lv_args 0 [.ref p0] = [(0, .ref p0)] := rfl
  refine zs_C.of1 (hB.2 8173 (by decide) (by decide)) hd (by rw [hL]; exact zs_sub_self _ (by exact ⟨rfl, trivial⟩)) ?_
  rw [hL]
  clear hL
  unfold w_X9_assign at h
  refine zu_aload_n d_8173_0 rfl (zs_ra _) ?_
  obtain ⟨k1, h⟩ := h
  refine zg_8_444 rfl d_8173_1 k1 ?_
  refine zu_ifle (t := 8) d_8173_4 rfl (fun c2 => ?_) (fun c2 => ?_)
  · have h := h.1 c2
    refine zu_aload_n d_8173_8 rfl (zs_ra _) ?_
    refine zg_8_653 rfl d_8173_9 k1 ?_
    refine zu_iconst d_8173_12 zi_1 ?_
    refine zu_stk d_8173_13 rfl rfl ?_
    refine zu_istore_n d_8173_14 (zs_lt zq_8173 rfl) ?_
    refine zu_aload_n d_8173_15 rfl (zs_ra _) ?_
    refine zg_8_194 rfl d_8173_16 k1 ?_
    refine zu_iload_n d_8173_19 rfl ?_
    obtain ⟨b3, e4, h⟩ := h
    refine zs_stk1 (zs_rfe e4) ?_
    obtain ⟨k5, h⟩ := h
    refine zu_bald (k := 2) d_8173_20 rfl (Or.inr rfl) k5 ?_
    refine zu_ifne (t := 30) d_8173_21 rfl (fun c6 => ?_) (fun c6 => ?_)
    · have h := h.1 c6
      refine zu_aload_n d_8173_30 rfl (zs_ra _) ?_
      refine zu_bipush d_8173_31 zj_20 ?_
      refine zc_8_535 (x0 := (20 : Int32)) hB rfl k1 d_8173_33 (Nat.le_of_ble_eq_true rfl) h (fun v8 S7 h => ?_)
      refine zu_ifne (t := 45) d_8173_36 rfl (fun c9 => ?_) (fun c9 => ?_)
      · have h := h.1 c9
        exact (u_X9_assign_45 hB h).weak ⟨rfl, rfl, trivial⟩
      · have h := h.2 c9
        exact (u_X9_assign_39 hB h).weak ⟨rfl, trivial⟩
    · have h := h.2 c6
      refine zu_aload_n d_8173_24 rfl (zs_ra _) ?_
      refine zu_iconst d_8173_25 zi_5 ?_
      refine zc_8_541 (x0 := (5 : Int32)) hB rfl k1 d_8173_26 (Nat.le_of_ble_eq_true rfl) h (fun S10 h => ?_)
      exact (u_X9_assign_29 hB h).weak trivial
  · have h := h.2 c2
    exact zu_vret d_8173_7 zr_8173 h
/-! SchemaPascalModel.assigned(I)V -/
theorem zm_8174 {σ : Nat → Nat} {n0 : Nat} {bf : ab_B} : ab_code (zx σ n0 bf).1 8174 = prog_17_method_166_code := rfl
theorem zq_8174 {σ : Nat → Nat} {n0 : Nat} {bf : ab_B} : ab_maxL (zx σ n0 bf).1 8174 = 5 := rfl
theorem zr_8174 {σ : Nat → Nat} {n0 : Nat} {bf : ab_B} : ab_ret (zx σ n0 bf).1 8174 = (Option.none : Option Jvm.ClassFile.FieldType) := rfl
theorem d_8174_0 {σ : Nat → Nat} {n0 : Nat} {bf : ab_B} : decode (ab_code (zx σ n0 bf).1 8174) 0 = .ok (.aload_n 0, 1) := zd zm_8174 (by decide +kernel)
theorem d_8174_1 {σ : Nat → Nat} {n0 : Nat} {bf : ab_B} : decode (ab_code (zx σ n0 bf).1 8174) 1 = .ok (.getfield 444, 3) := zd zm_8174 (by decide +kernel)
theorem d_8174_4 {σ : Nat → Nat} {n0 : Nat} {bf : ab_B} : decode (ab_code (zx σ n0 bf).1 8174) 4 = .ok (.ifCond .le 4, 3) := zd zm_8174 (by decide +kernel)
theorem d_8174_7 {σ : Nat → Nat} {n0 : Nat} {bf : ab_B} : decode (ab_code (zx σ n0 bf).1 8174) 7 = .ok (.return_, 1) := zd zm_8174 (by decide +kernel)
theorem d_8174_8 {σ : Nat → Nat} {n0 : Nat} {bf : ab_B} : decode (ab_code (zx σ n0 bf).1 8174) 8 = .ok (.aload_n 0, 1) := zd zm_8174 (by decide +kernel)
theorem d_8174_9 {σ : Nat → Nat} {n0 : Nat} {bf : ab_B} : decode (ab_code (zx σ n0 bf).1 8174) 9 = .ok (.getfield 191, 3) := zd zm_8174 (by decide +kernel)
theorem d_8174_12 {σ : Nat → Nat} {n0 : Nat} {bf : ab_B} : decode (ab_code (zx σ n0 bf).1 8174) 12 = .ok (.aload_n 0, 1) := zd zm_8174 (by decide +kernel)
theorem d_8174_13 {σ : Nat → Nat} {n0 : Nat} {bf : ab_B} : decode (ab_code (zx σ n0 bf).1 8174) 13 = .ok (.getfield 653, 3) := zd zm_8174 (by decide +kernel)
theorem d_8174_16 {σ : Nat → Nat} {n0 : Nat} {bf : ab_B} : decode (ab_code (zx σ n0 bf).1 8174) 16 = .ok (.iconst 2, 1) := zd zm_8174 (by decide +kernel)
theorem d_8174_17 {σ : Nat → Nat} {n0 : Nat} {bf : ab_B} : decode (ab_code (zx σ n0 bf).1 8174) 17 = .ok (.isub, 1) := zd zm_8174 (by decide +kernel)
theorem d_8174_18 {σ : Nat → Nat} {n0 : Nat} {bf : ab_B} : decode (ab_code (zx σ n0 bf).1 8174) 18 = .ok (.iaload, 1) := zd zm_8174 (by decide +kernel)
theorem d_8174_19 {σ : Nat → Nat} {n0 : Nat} {bf : ab_B} : decode (ab_code (zx σ n0 bf).1 8174) 19 = .ok (.istore_n 2, 1) := zd zm_8174 (by decide +kernel)
theorem d_8174_20 {σ : Nat → Nat} {n0 : Nat} {bf : ab_B} : decode (ab_code (zx σ n0 bf).1 8174) 20 = .ok (.aload_n 0, 1) := zd zm_8174 (by decide +kernel)
theorem d_8174_21 {σ : Nat → Nat} {n0 : Nat} {bf : ab_B} : decode (ab_code (zx σ n0 bf).1 8174) 21 = .ok (.iload_n 2, 1) := zd zm_8174 (by decide +kernel)
theorem d_8174_22 {σ : Nat → Nat} {n0 : Nat} {bf : ab_B} : decode (ab_code (zx σ n0 bf).1 8174) 22 = .ok (.invokevirtual 752, 3) := zd zm_8174 (by decide +kernel)
theorem d_8174_25 {σ : Nat → Nat} {n0 : Nat} {bf : ab_B} : decode (ab_code (zx σ n0 bf).1 8174) 25 = .ok (.aload_n 0, 1) := zd zm_8174 (by decide +kernel)
theorem d_8174_26 {σ : Nat → Nat} {n0 : Nat} {bf : ab_B} : decode (ab_code (zx σ n0 bf).1 8174) 26 = .ok (.getfield 444, 3) := zd zm_8174 (by decide +kernel)
theorem d_8174_29 {σ : Nat → Nat} {n0 : Nat} {bf : ab_B} : decode (ab_code (zx σ n0 bf).1 8174) 29 = .ok (.ifCond .ne 16, 3) := zd zm_8174 (by decide +kernel)
theorem d_8174_32 {σ : Nat → Nat} {n0 : Nat} {bf : ab_B} : decode (ab_code (zx σ n0 bf).1 8174) 32 = .ok (.aload_n 0, 1) := zd zm_8174 (by decide +kernel)
theorem d_8174_33 {σ : Nat → Nat} {n0 : Nat} {bf : ab_B} : decode (ab_code (zx σ n0 bf).1 8174) 33 = .ok (.iload_n 2, 1) := zd zm_8174 (by decide +kernel)
theorem d_8174_34 {σ : Nat → Nat} {n0 : Nat} {bf : ab_B} : decode (ab_code (zx σ n0 bf).1 8174) 34 = .ok (.invokevirtual 755, 3) := zd zm_8174 (by decide +kernel)
theorem d_8174_37 {σ : Nat → Nat} {n0 : Nat} {bf : ab_B} : decode (ab_code (zx σ n0 bf).1 8174) 37 = .ok (.ifCond .ne 8, 3) := zd zm_8174 (by decide +kernel)
theorem d_8174_40 {σ : Nat → Nat} {n0 : Nat} {bf : ab_B} : decode (ab_code (zx σ n0 bf).1 8174) 40 = .ok (.aload_n 0, 1) := zd zm_8174 (by decide +kernel)
theorem d_8174_41 {σ : Nat → Nat} {n0 : Nat} {bf : ab_B} : decode (ab_code (zx σ n0 bf).1 8174) 41 = .ok (.iconst 5, 1) := zd zm_8174 (by decide +kernel)
theorem d_8174_42 {σ : Nat → Nat} {n0 : Nat} {bf : ab_B} : decode (ab_code (zx σ n0 bf).1 8174) 42 = .ok (.invokevirtual 541, 3) := zd zm_8174 (by decide +kernel)
theorem d_8174_45 {σ : Nat → Nat} {n0 : Nat} {bf : ab_B} : decode (ab_code (zx σ n0 bf).1 8174) 45 = .ok (.aload_n 0, 1) := zd zm_8174 (by decide +kernel)
theorem d_8174_46 {σ : Nat → Nat} {n0 : Nat} {bf : ab_B} : decode (ab_code (zx σ n0 bf).1 8174) 46 = .ok (.getfield 444, 3) := zd zm_8174 (by decide +kernel)
theorem d_8174_49 {σ : Nat → Nat} {n0 : Nat} {bf : ab_B} : decode (ab_code (zx σ n0 bf).1 8174) 49 = .ok (.ifCond .le 4, 3) := zd zm_8174 (by decide +kernel)
theorem d_8174_52 {σ : Nat → Nat} {n0 : Nat} {bf : ab_B} : decode (ab_code (zx σ n0 bf).1 8174) 52 = .ok (.return_, 1) := zd zm_8174 (by decide +kernel)
theorem d_8174_53 {σ : Nat → Nat} {n0 : Nat} {bf : ab_B} : decode (ab_code (zx σ n0 bf).1 8174) 53 = .ok (.aload_n 0, 1) := zd zm_8174 (by decide +kernel)
theorem d_8174_54 {σ : Nat → Nat} {n0 : Nat} {bf : ab_B} : decode (ab_code (zx σ n0 bf).1 8174) 54 = .ok (.getfield 90, 3) := zd zm_8174 (by decide +kernel)
theorem d_8174_57 {σ : Nat → Nat} {n0 : Nat} {bf : ab_B} : decode (ab_code (zx σ n0 bf).1 8174) 57 = .ok (.iload_n 2, 1) := zd zm_8174 (by decide +kernel)
theorem d_8174_58 {σ : Nat → Nat} {n0 : Nat} {bf : ab_B} : decode (ab_code (zx σ n0 bf).1 8174) 58 = .ok (.baload, 1) := zd zm_8174 (by decide +kernel)
theorem d_8174_59 {σ : Nat → Nat} {n0 : Nat} {bf : ab_B} : decode (ab_code (zx σ n0 bf).1 8174) 59 = .ok (.bipush 7, 2) := zd zm_8174 (by decide +kernel)
theorem d_8174_61 {σ : Nat → Nat} {n0 : Nat} {bf : ab_B} : decode (ab_code (zx σ n0 bf).1 8174) 61 = .ok (.if_icmp .ne 41, 3) := zd zm_8174 (by decide +kernel)
theorem d_8174_64 {σ : Nat → Nat} {n0 : Nat} {bf : ab_B} : decode (ab_code (zx σ n0 bf).1 8174) 64 = .ok (.aload_n 0, 1) := zd zm_8174 (by decide +kernel)
theorem d_8174_65 {σ : Nat → Nat} {n0 : Nat} {bf : ab_B} : decode (ab_code (zx σ n0 bf).1 8174) 65 = .ok (.aload_n 0, 1) := zd zm_8174 (by decide +kernel)
theorem d_8174_66 {σ : Nat → Nat} {n0 : Nat} {bf : ab_B} : decode (ab_code (zx σ n0 bf).1 8174) 66 = .ok (.getfield 191, 3) := zd zm_8174 (by decide +kernel)
theorem d_8174_69 {σ : Nat → Nat} {n0 : Nat} {bf : ab_B} : decode (ab_code (zx σ n0 bf).1 8174) 69 = .ok (.aload_n 0, 1) := zd zm_8174 (by decide +kernel)
theorem d_8174_70 {σ : Nat → Nat} {n0 : Nat} {bf : ab_B} : decode (ab_code (zx σ n0 bf).1 8174) 70 = .ok (.getfield 653, 3) := zd zm_8174 (by decide +kernel)
theorem d_8174_73 {σ : Nat → Nat} {n0 : Nat} {bf : ab_B} : decode (ab_code (zx σ n0 bf).1 8174) 73 = .ok (.iconst 1, 1) := zd zm_8174 (by decide +kernel)
theorem d_8174_74 {σ : Nat → Nat} {n0 : Nat} {bf : ab_B} : decode (ab_code (zx σ n0 bf).1 8174) 74 = .ok (.isub, 1) := zd zm_8174 (by decide +kernel)
theorem d_8174_75 {σ : Nat → Nat} {n0 : Nat} {bf : ab_B} : decode (ab_code (zx σ n0 bf).1 8174) 75 = .ok (.iaload, 1) := zd zm_8174 (by decide +kernel)
theorem d_8174_76 {σ : Nat → Nat} {n0 : Nat} {bf : ab_B} : decode (ab_code (zx σ n0 bf).1 8174) 76 = .ok (.invokevirtual 676, 3) := zd zm_8174 (by decide +kernel)
theorem d_8174_79 {σ : Nat → Nat} {n0 : Nat} {bf : ab_B} : decode (ab_code (zx σ n0 bf).1 8174) 79 = .ok (.ifCond .ne 23, 3) := zd zm_8174 (by decide +kernel)
theorem d_8174_82 {σ : Nat → Nat} {n0 : Nat} {bf : ab_B} : decode (ab_code (zx σ n0 bf).1 8174) 82 = .ok (.aload_n 0, 1) := zd zm_8174 (by decide +kernel)
theorem d_8174_83 {σ : Nat → Nat} {n0 : Nat} {bf : ab_B} : decode (ab_code (zx σ n0 bf).1 8174) 83 = .ok (.bipush 10, 2) := zd zm_8174 (by decide +kernel)
theorem d_8174_85 {σ : Nat → Nat} {n0 : Nat} {bf : ab_B} : decode (ab_code (zx σ n0 bf).1 8174) 85 = .ok (.iconst 0, 1) := zd zm_8174 (by decide +kernel)
theorem d_8174_86 {σ : Nat → Nat} {n0 : Nat} {bf : ab_B} : decode (ab_code (zx σ n0 bf).1 8174) 86 = .ok (.iconst 0, 1) := zd zm_8174 (by decide +kernel)
theorem d_8174_87 {σ : Nat → Nat} {n0 : Nat} {bf : ab_B} : decode (ab_code (zx σ n0 bf).1 8174) 87 = .ok (.aload_n 0, 1) := zd zm_8174 (by decide +kernel)
theorem d_8174_88 {σ : Nat → Nat} {n0 : Nat} {bf : ab_B} : decode (ab_code (zx σ n0 bf).1 8174) 88 = .ok (.getfield 206, 3) := zd zm_8174 (by decide +kernel)
theorem d_8174_91 {σ : Nat → Nat} {n0 : Nat} {bf : ab_B} : decode (ab_code (zx σ n0 bf).1 8174) 91 = .ok (.aload_n 0, 1) := zd zm_8174 (by decide +kernel)
theorem d_8174_92 {σ : Nat → Nat} {n0 : Nat} {bf : ab_B} : decode (ab_code (zx σ n0 bf).1 8174) 92 = .ok (.getfield 653, 3) := zd zm_8174 (by decide +kernel)
theorem d_8174_95 {σ : Nat → Nat} {n0 : Nat} {bf : ab_B} : decode (ab_code (zx σ n0 bf).1 8174) 95 = .ok (.iconst 1, 1) := zd zm_8174 (by decide +kernel)
theorem d_8174_96 {σ : Nat → Nat} {n0 : Nat} {bf : ab_B} : decode (ab_code (zx σ n0 bf).1 8174) 96 = .ok (.isub, 1) := zd zm_8174 (by decide +kernel)
theorem d_8174_97 {σ : Nat → Nat} {n0 : Nat} {bf : ab_B} : decode (ab_code (zx σ n0 bf).1 8174) 97 = .ok (.iaload, 1) := zd zm_8174 (by decide +kernel)
theorem d_8174_98 {σ : Nat → Nat} {n0 : Nat} {bf : ab_B} : decode (ab_code (zx σ n0 bf).1 8174) 98 = .ok (.invokevirtual 656, 3) := zd zm_8174 (by decide +kernel)
theorem d_8174_101 {σ : Nat → Nat} {n0 : Nat} {bf : ab_B} : decode (ab_code (zx σ n0 bf).1 8174) 101 = .ok (.istore_n 3, 1) := zd zm_8174 (by decide +kernel)
theorem d_8174_102 {σ : Nat → Nat} {n0 : Nat} {bf : ab_B} : decode (ab_code (zx σ n0 bf).1 8174) 102 = .ok (.aload_n 0, 1) := zd zm_8174 (by decide +kernel)
theorem d_8174_103 {σ : Nat → Nat} {n0 : Nat} {bf : ab_B} : decode (ab_code (zx σ n0 bf).1 8174) 103 = .ok (.getfield 200, 3) := zd zm_8174 (by decide +kernel)
theorem d_8174_106 {σ : Nat → Nat} {n0 : Nat} {bf : ab_B} : decode (ab_code (zx σ n0 bf).1 8174) 106 = .ok (.aload_n 0, 1) := zd zm_8174 (by decide +kernel)
theorem d_8174_107 {σ : Nat → Nat} {n0 : Nat} {bf : ab_B} : decode (ab_code (zx σ n0 bf).1 8174) 107 = .ok (.getfield 653, 3) := zd zm_8174 (by decide +kernel)
theorem d_8174_110 {σ : Nat → Nat} {n0 : Nat} {bf : ab_B} : decode (ab_code (zx σ n0 bf).1 8174) 110 = .ok (.iconst 2, 1) := zd zm_8174 (by decide +kernel)
theorem d_8174_111 {σ : Nat → Nat} {n0 : Nat} {bf : ab_B} : decode (ab_code (zx σ n0 bf).1 8174) 111 = .ok (.isub, 1) := zd zm_8174 (by decide +kernel)
theorem d_8174_112 {σ : Nat → Nat} {n0 : Nat} {bf : ab_B} : decode (ab_code (zx σ n0 bf).1 8174) 112 = .ok (.iaload, 1) := zd zm_8174 (by decide +kernel)
theorem d_8174_113 {σ : Nat → Nat} {n0 : Nat} {bf : ab_B} : decode (ab_code (zx σ n0 bf).1 8174) 113 = .ok (.iconst 2, 1) := zd zm_8174 (by decide +kernel)
theorem d_8174_114 {σ : Nat → Nat} {n0 : Nat} {bf : ab_B} : decode (ab_code (zx σ n0 bf).1 8174) 114 = .ok (.iand, 1) := zd zm_8174 (by decide +kernel)
theorem d_8174_115 {σ : Nat → Nat} {n0 : Nat} {bf : ab_B} : decode (ab_code (zx σ n0 bf).1 8174) 115 = .ok (.ifCond .eq 7, 3) := zd zm_8174 (by decide +kernel)
theorem d_8174_118 {σ : Nat → Nat} {n0 : Nat} {bf : ab_B} : decode (ab_code (zx σ n0 bf).1 8174) 118 = .ok (.iconst 1, 1) := zd zm_8174 (by decide +kernel)
theorem d_8174_119 {σ : Nat → Nat} {n0 : Nat} {bf : ab_B} : decode (ab_code (zx σ n0 bf).1 8174) 119 = .ok (.goto 4, 3) := zd zm_8174 (by decide +kernel)
theorem d_8174_122 {σ : Nat → Nat} {n0 : Nat} {bf : ab_B} : decode (ab_code (zx σ n0 bf).1 8174) 122 = .ok (.iconst 0, 1) := zd zm_8174 (by decide +kernel)
theorem d_8174_123 {σ : Nat → Nat} {n0 : Nat} {bf : ab_B} : decode (ab_code (zx σ n0 bf).1 8174) 123 = .ok (.istore_n 3, 1) := zd zm_8174 (by decide +kernel)
theorem d_8174_124 {σ : Nat → Nat} {n0 : Nat} {bf : ab_B} : decode (ab_code (zx σ n0 bf).1 8174) 124 = .ok (.aload_n 0, 1) := zd zm_8174 (by decide +kernel)
theorem d_8174_125 {σ : Nat → Nat} {n0 : Nat} {bf : ab_B} : decode (ab_code (zx σ n0 bf).1 8174) 125 = .ok (.aload_n 0, 1) := zd zm_8174 (by decide +kernel)
theorem d_8174_126 {σ : Nat → Nat} {n0 : Nat} {bf : ab_B} : decode (ab_code (zx σ n0 bf).1 8174) 126 = .ok (.iload_n 2, 1) := zd zm_8174 (by decide +kernel)
theorem d_8174_127 {σ : Nat → Nat} {n0 : Nat} {bf : ab_B} : decode (ab_code (zx σ n0 bf).1 8174) 127 = .ok (.invokevirtual 974, 3) := zd zm_8174 (by decide +kernel)
theorem d_8174_130 {σ : Nat → Nat} {n0 : Nat} {bf : ab_B} : decode (ab_code (zx σ n0 bf).1 8174) 130 = .ok (.iload_n 3, 1) := zd zm_8174 (by decide +kernel)
theorem d_8174_131 {σ : Nat → Nat} {n0 : Nat} {bf : ab_B} : decode (ab_code (zx σ n0 bf).1 8174) 131 = .ok (.iconst 0, 1) := zd zm_8174 (by decide +kernel)
theorem d_8174_132 {σ : Nat → Nat} {n0 : Nat} {bf : ab_B} : decode (ab_code (zx σ n0 bf).1 8174) 132 = .ok (.iload_n 1, 1) := zd zm_8174 (by decide +kernel)
theorem d_8174_133 {σ : Nat → Nat} {n0 : Nat} {bf : ab_B} : decode (ab_code (zx σ n0 bf).1 8174) 133 = .ok (.invokevirtual 656, 3) := zd zm_8174 (by decide +kernel)
theorem d_8174_136 {σ : Nat → Nat} {n0 : Nat} {bf : ab_B} : decode (ab_code (zx σ n0 bf).1 8174) 136 = .ok (.istore 4, 2) := zd zm_8174 (by decide +kernel)
theorem d_8174_138 {σ : Nat → Nat} {n0 : Nat} {bf : ab_B} : decode (ab_code (zx σ n0 bf).1 8174) 138 = .ok (.aload_n 0, 1) := zd zm_8174 (by decide +kernel)
theorem d_8174_139 {σ : Nat → Nat} {n0 : Nat} {bf : ab_B} : decode (ab_code (zx σ n0 bf).1 8174) 139 = .ok (.dup, 1) := zd zm_8174 (by decide +kernel)
theorem d_8174_140 {σ : Nat → Nat} {n0 : Nat} {bf : ab_B} : decode (ab_code (zx σ n0 bf).1 8174) 140 = .ok (.getfield 653, 3) := zd zm_8174 (by decide +kernel)
theorem d_8174_143 {σ : Nat → Nat} {n0 : Nat} {bf : ab_B} : decode (ab_code (zx σ n0 bf).1 8174) 143 = .ok (.iconst 2, 1) := zd zm_8174 (by decide +kernel)
theorem d_8174_144 {σ : Nat → Nat} {n0 : Nat} {bf : ab_B} : decode (ab_code (zx σ n0 bf).1 8174) 144 = .ok (.isub, 1) := zd zm_8174 (by decide +kernel)
theorem d_8174_145 {σ : Nat → Nat} {n0 : Nat} {bf : ab_B} : decode (ab_code (zx σ n0 bf).1 8174) 145 = .ok (.putfield 653, 3) := zd zm_8174 (by decide +kernel)
theorem d_8174_148 {σ : Nat → Nat} {n0 : Nat} {bf : ab_B} : decode (ab_code (zx σ n0 bf).1 8174) 148 = .ok (.return_, 1) := zd zm_8174 (by decide +kernel)
def w_X9_assigned_148 (X : zs_X) (d : Nat)  (S : zs_T) (Q : zs_Q) : Prop :=
  (Q (.returned none) S)
theorem u_X9_assigned_148 {σ : Nat → Nat} {n0 : Nat} {bf : ab_B} {d : Nat}  {S : zs_T} {Q : zs_Q} (hB : zt_B bf) (h : w_X9_assigned_148 (zx σ n0 bf) d  S Q) : zs_U (zx σ n0 bf) d 8174 148 [] [] S Q := by
  unfold w_X9_assigned_148 at h
  exact zu_vret d_8174_148 zr_8174 h
def w_X9_assigned_123 (X : zs_X) (d : Nat) (p0 : Nat) (p1 : Int32) (p2 : Int32) (q0 : Int32) (S : zs_T) (Q : zs_Q) : Prop :=
  (zs_K S p0 = some (.inl 8) ∧ zs_C X d 8175 [.ref p0, .int p2] S (zs_kI (fun v3 S2 => (zs_K S2 p0 = some (.inl 8) ∧ zs_C X d 8012 [.ref p0, .int v3, .int q0, .int (0 : Int32), .int p1] S2 (zs_kI (fun v6 S5 => (zs_K S5 p0 = some (.inl 8) ∧ ab_n0 X.1 ≤ p0 ∧ ∀ S9, S9 = zs_sI S5 8097 p0 ((zs_I S5 8097 p0) - (2 : Int32)) → w_X9_assigned_148 X d  S9 Q)) Q))) Q))
theorem u_X9_assigned_123 {σ : Nat → Nat} {n0 : Nat} {bf : ab_B} {d : Nat} {p0 : Nat} {p1 : Int32} {p2 : Int32} {q0 : Int32} {S : zs_T} {Q : zs_Q} (hB : zt_B bf) (h : w_X9_assigned_123 (zx σ n0 bf) d p0 p1 p2 q0 S Q) : zs_U (zx σ n0 bf) d 8174 123 [(0, .ref p0), (1, .int p1), (2, .int p2)] [.int q0] S Q := by
  unfold w_X9_assigned_123 at h
  refine zu_istore_n d_8174_123 (zs_lt zq_8174 rfl) ?_
  refine zu_aload_n d_8174_124 rfl (zs_ra _) ?_
  refine zu_aload_n d_8174_125 rfl (zs_ra _) ?_
  refine zu_iload_n d_8174_126 rfl ?_
  obtain ⟨k1, h⟩ := h
  refine zc_8_974 (x0 := p2) hB rfl k1 d_8174_127 (Nat.le_of_ble_eq_true rfl) h (fun v3 S2 h => ?_)
  refine zu_iload_n d_8174_130 rfl ?_
  refine zu_iconst d_8174_131 zi_0 ?_
  refine zu_iload_n d_8174_132 rfl ?_
  obtain ⟨k4, h⟩ := h
  refine zc_8_656 (x0 := v3) (x1 := q0) (x2 := (0 : Int32)) (x3 := p1) hB rfl k4 d_8174_133 (Nat.le_of_ble_eq_true rfl) h (fun v6 S5 h => ?_)
  refine zu_istore d_8174_136 (zs_lt zq_8174 rfl) ?_
  refine zu_aload_n d_8174_138 rfl (zs_ra _) ?_
  refine zu_dup d_8174_139 rfl ?_
  obtain ⟨k7, h⟩ := h
  refine zg_8_653 rfl d_8174_140 k7 ?_
  refine zu_iconst d_8174_143 zi_2 ?_
  refine zu_stk d_8174_144 rfl rfl ?_
  obtain ⟨k8, h⟩ := h
  refine zp_8_653 (v := ((zs_I S5 8097 p0) - (2 : Int32))) rfl d_8174_145 k7 k8 ?_
  generalize e10 : zs_sI S5 8097 p0 ((zs_I S5 8097 p0) - (2 : Int32)) = S9
  have h := h S9 e10.symm
  have K11 : ∀ b, zs_K S9 b = zs_K S5 b := zs_Kt e10 (zs_KsI _ _ _ _) (fun _ => rfl)
  exact (u_X9_assigned_148 hB h).weak trivial
def w_X9_assigned_102 (X : zs_X) (d : Nat) (p0 : Nat) (p1 : Int32) (p2 : Int32) (S : zs_T) (Q : zs_Q) : Prop :=
  (zs_K S p0 = some (.inl 8) ∧ ∃ b2, (zs_R S 8094 p0) = some b2 ∧ zs_A S b2 0 ((zs_I S 8097 p0) - (2 : Int32)) ∧ ((((zs_i S b2 ((zs_I S 8097 p0) - (2 : Int32)).toNatClampNeg) &&& (2 : Int32)) = 0 → (w_X9_assigned_123 X d p0 p1 p2 (0 : Int32) S Q)) ∧ (¬ (((zs_i S b2 ((zs_I S 8097 p0) - (2 : Int32)).toNatClampNeg) &&& (2 : Int32)) = 0) → (w_X9_assigned_123 X d p0 p1 p2 (1 : Int32) S Q))))
theorem u_X9_assigned_102 {σ : Nat → Nat} {n0 : Nat} {bf : ab_B} {d : Nat} {p0 : Nat} {p1 : Int32} {p2 : Int32} {S : zs_T} {Q : zs_Q} (hB : zt_B bf) (h : w_X9_assigned_102 (zx σ n0 bf) d p0 p1 p2 S Q) : zs_U (zx σ n0 bf) d 8174 102 [(0, .ref p0), (1, .int p1), (2, .int p2)] [] S Q := by
  unfold w_X9_assigned_102 at h
  refine zu_aload_n d_8174_102 rfl (zs_ra _) ?_
  obtain ⟨k1, h⟩ := h
  refine zg_8_200 rfl d_8174_103 k1 ?_
  refine zu_aload_n d_8174_106 rfl (zs_ra _) ?_
  refine zg_8_653 rfl d_8174_107 k1 ?_
  refine zu_iconst d_8174_110 zi_2 ?_
  refine zu_stk d_8174_111 rfl rfl ?_
  obtain ⟨b2, e3, h⟩ := h
  refine zs_stk1 (zs_rfe e3) ?_
  obtain ⟨k4, h⟩ := h
  refine zu_iald (k := 0) d_8174_112 rfl rfl k4 ?_
  refine zu_iconst d_8174_113 zi_2 ?_
  refine zu_stk d_8174_114 rfl rfl ?_
  refine zu_ifeq (t := 122) d_8174_115 rfl (fun c5 => ?_) (fun c5 => ?_)
  · have h := h.1 c5
    refine zu_iconst d_8174_122 zi_0 ?_
    exact (u_X9_assigned_123 hB h).weak ⟨rfl, rfl, rfl, trivial⟩
  · have h := h.2 c5
    refine zu_iconst d_8174_118 zi_1 ?_
    refine zu_goto (t := 123) d_8174_119 rfl ?_
    exact (u_X9_assigned_123 hB h).weak ⟨rfl, rfl, rfl, trivial⟩
def w_X9_assigned_82 (X : zs_X) (d : Nat) (p0 : Nat) (p1 : Int32) (p2 : Int32) (S : zs_T) (Q : zs_Q) : Prop :=
  (zs_K S p0 = some (.inl 8) ∧ ∃ b2, (zs_R S 8096 p0) = some b2 ∧ zs_A S b2 0 ((zs_I S 8097 p0) - (1 : Int32)) ∧ zs_C X d 8012 [.ref p0, .int (10 : Int32), .int (0 : Int32), .int (0 : Int32), .int (zs_i S b2 ((zs_I S 8097 p0) - (1 : Int32)).toNatClampNeg)] S (zs_kI (fun v6 S5 => (w_X9_assigned_102 X d p0 p1 p2 S5 Q)) Q))
theorem u_X9_assigned_82 {σ : Nat → Nat} {n0 : Nat} {bf : ab_B} {d : Nat} {p0 : Nat} {p1 : Int32} {p2 : Int32} {S : zs_T} {Q : zs_Q} (hB : zt_B bf) (h : w_X9_assigned_82 (zx σ n0 bf) d p0 p1 p2 S Q) : zs_U (zx σ n0 bf) d 8174 82 [(0, .ref p0), (1, .int p1), (2, .int p2)] [] S Q := by
  unfold w_X9_assigned_82 at h
  refine zu_aload_n d_8174_82 rfl (zs_ra _) ?_
  refine zu_bipush d_8174_83 zj_10 ?_
  refine zu_iconst d_8174_85 zi_0 ?_
  refine zu_iconst d_8174_86 zi_0 ?_
  refine zu_aload_n d_8174_87 rfl (zs_ra _) ?_
  obtain ⟨k1, h⟩ := h
  refine zg_8_206 rfl d_8174_88 k1 ?_
  refine zu_aload_n d_8174_91 rfl (zs_ra _) ?_
  refine zg_8_653 rfl d_8174_92 k1 ?_
  refine zu_iconst d_8174_95 zi_1 ?_
  refine zu_stk d_8174_96 rfl rfl ?_
  obtain ⟨b2, e3, h⟩ := h
  refine zs_stk1 (zs_rfe e3) ?_
  obtain ⟨k4, h⟩ := h
  refine zu_iald (k := 0) d_8174_97 rfl rfl k4 ?_
  refine zc_8_656 (x0 := (10 : Int32)) (x1 := (0 : Int32)) (x2 := (0 : Int32)) (x3 := (zs_i S b2 ((zs_I S 8097 p0) - (1 : Int32)).toNatClampNeg)) hB rfl k1 d_8174_98 (Nat.le_of_ble_eq_true rfl) h (fun v6 S5 h => ?_)
  refine zu_istore_n d_8174_101 (zs_lt zq_8174 rfl) ?_
  exact (u_X9_assigned_102 hB h).weak ⟨rfl, rfl, rfl, trivial⟩
def w_X9_assigned_45 (X : zs_X) (d : Nat) (p0 : Nat) (p1 : Int32) (p2 : Int32) (S : zs_T) (Q : zs_Q) : Prop :=
  (zs_K S p0 = some (.inl 8) ∧ (((zs_I S 8010 p0) ≤ 0 → (∃ b3, (zs_R S 8044 p0) = some b3 ∧ zs_A S b3 1 p2 ∧ ((¬ (zs_i S b3 p2.toNatClampNeg) = (7 : Int32) → w_X9_assigned_102 X d p0 p1 p2 S Q) ∧ (¬ (¬ (zs_i S b3 p2.toNatClampNeg) = (7 : Int32)) → (∃ b7, (zs_R S 8091 p0) = some b7 ∧ zs_A S b7 0 ((zs_I S 8097 p0) - (1 : Int32)) ∧ zs_C X d 8044 [.ref p0, .int (zs_i S b7 ((zs_I S 8097 p0) - (1 : Int32)).toNatClampNeg)] S (zs_kI (fun v11 S10 => (((¬ v11 = 0 → w_X9_assigned_102 X d p0 p1 p2 S10 Q) ∧ (¬ (¬ v11 = 0) → w_X9_assigned_82 X d p0 p1 p2 S10 Q)))) Q)))))) ∧ (¬ ((zs_I S 8010 p0) ≤ 0) → (Q (.returned none) S))))
theorem u_X9_assigned_45 {σ : Nat → Nat} {n0 : Nat} {bf : ab_B} {d : Nat} {p0 : Nat} {p1 : Int32} {p2 : Int32} {S : zs_T} {Q : zs_Q} (hB : zt_B bf) (h : w_X9_assigned_45 (zx σ n0 bf) d p0 p1 p2 S Q) : zs_U (zx σ n0 bf) d 8174 45 [(0, .ref p0), (1, .int p1), (2, .int p2)] [] S Q := by
  unfold w_X9_assigned_45 at h
  refine zu_aload_n d_8174_45 rfl (zs_ra _) ?_
  obtain ⟨k1, h⟩ := h
  refine zg_8_444 rfl d_8174_46 k1 ?_
  refine zu_ifle (t := 53) d_8174_49 rfl (fun c2 => ?_) (fun c2 => ?_)
  · have h := h.1 c2
    refine zu_aload_n d_8174_53 rfl (zs_ra _) ?_
    refine zg_8_90 rfl d_8174_54 k1 ?_
    refine zu_iload_n d_8174_57 rfl ?_
    obtain ⟨b3, e4, h⟩ := h
    refine zs_stk1 (zs_rfe e4) ?_
    obtain ⟨k5, h⟩ := h
    refine zu_bald (k := 1) d_8174_58 rfl (Or.inl rfl) k5 ?_
    refine zu_bipush d_8174_59 zj_7 ?_
    refine zu_cmpne (t := 102) d_8174_61 rfl (fun c6 => ?_) (fun c6 => ?_)
    · have h := h.1 c6
      exact (u_X9_assigned_102 hB h).weak ⟨rfl, rfl, rfl, trivial⟩
    · have h := h.2 c6
      refine zu_aload_n d_8174_64 rfl (zs_ra _) ?_
      refine zu_aload_n d_8174_65 rfl (zs_ra _) ?_
      refine zg_8_191 rfl d_8174_66 k1 ?_
      refine zu_aload_n d_8174_69 rfl (zs_ra _) ?_
      refine zg_8_653 rfl d_8174_70 k1 ?_
      refine zu_iconst d_8174_73 zi_1 ?_
      refine zu_stk d_8174_74 rfl rfl ?_
      obtain ⟨b7, e8, h⟩ := h
      refine zs_stk1 (zs_rfe e8) ?_
      obtain ⟨k9, h⟩ := h
      refine zu_iald (k := 0) d_8174_75 rfl rfl k9 ?_
      refine zc_8_676 (x0 := (zs_i S b7 ((zs_I S 8097 p0) - (1 : Int32)).toNatClampNeg)) hB rfl k1 d_8174_76 (Nat.le_of_ble_eq_true rfl) h (fun v11 S10 h => ?_)
      refine zu_ifne (t := 102) d_8174_79 rfl (fun c12 => ?_) (fun c12 => ?_)
      · have h := h.1 c12
        exact (u_X9_assigned_102 hB h).weak ⟨rfl, rfl, rfl, trivial⟩
      · have h := h.2 c12
        exact (u_X9_assigned_82 hB h).weak ⟨rfl, rfl, rfl, trivial⟩
  · have h := h.2 c2
    exact zu_vret d_8174_52 zr_8174 h
def w_X9_assigned_32 (X : zs_X) (d : Nat) (p0 : Nat) (p1 : Int32) (p2 : Int32) (S : zs_T) (Q : zs_Q) : Prop :=
  (zs_K S p0 = some (.inl 8) ∧ zs_C X d 8082 [.ref p0, .int p2] S (zs_kI (fun v3 S2 => (((¬ v3 = 0 → w_X9_assigned_45 X d p0 p1 p2 S2 Q) ∧ (¬ (¬ v3 = 0) → (zs_K S2 p0 = some (.inl 8) ∧ zs_C X d 8027 [.ref p0, .int (5 : Int32)] S2 (zs_kV (fun S6 => w_X9_assigned_45 X d p0 p1 p2 S6 Q) Q)))))) Q))
theorem u_X9_assigned_32 {σ : Nat → Nat} {n0 : Nat} {bf : ab_B} {d : Nat} {p0 : Nat} {p1 : Int32} {p2 : Int32} {S : zs_T} {Q : zs_Q} (hB : zt_B bf) (h : w_X9_assigned_32 (zx σ n0 bf) d p0 p1 p2 S Q) : zs_U (zx σ n0 bf) d 8174 32 [(0, .ref p0), (1, .int p1), (2, .int p2)] [] S Q := by
  unfold w_X9_assigned_32 at h
  refine zu_aload_n d_8174_32 rfl (zs_ra _) ?_
  refine zu_iload_n d_8174_33 rfl ?_
  obtain ⟨k1, h⟩ := h
  refine zc_8_755 (x0 := p2) hB rfl k1 d_8174_34 (Nat.le_of_ble_eq_true rfl) h (fun v3 S2 h => ?_)
  refine zu_ifne (t := 45) d_8174_37 rfl (fun c4 => ?_) (fun c4 => ?_)
  · have h := h.1 c4
    exact (u_X9_assigned_45 hB h).weak ⟨rfl, rfl, rfl, trivial⟩
  · have h := h.2 c4
    refine zu_aload_n d_8174_40 rfl (zs_ra _) ?_
    refine zu_iconst d_8174_41 zi_5 ?_
    obtain ⟨k5, h⟩ := h
    refine zc_8_541 (x0 := (5 : Int32)) hB rfl k5 d_8174_42 (Nat.le_of_ble_eq_true rfl) h (fun S6 h => ?_)
    exact (u_X9_assigned_45 hB h).weak ⟨rfl, rfl, rfl, trivial⟩
def w_X9_assigned (X : zs_X) (d : Nat) (p0 : Nat) (p1 : Int32) (S : zs_T) (Q : zs_Q) : Prop :=
  (zs_K S p0 = some (.inl 8) ∧ (((zs_I S 8010 p0) ≤ 0 → (∃ b3, (zs_R S 8091 p0) = some b3 ∧ zs_A S b3 0 ((zs_I S 8097 p0) - (2 : Int32)) ∧ zs_C X d 8081 [.ref p0, .int (zs_i S b3 ((zs_I S 8097 p0) - (2 : Int32)).toNatClampNeg)] S (zs_kV (fun S6 => (zs_K S6 p0 = some (.inl 8) ∧ ((¬ (zs_I S6 8010 p0) = 0 → w_X9_assigned_45 X d p0 p1 (zs_i S b3 ((zs_I S 8097 p0) - (2 : Int32)).toNatClampNeg) S6 Q) ∧ (¬ (¬ (zs_I S6 8010 p0) = 0) → w_X9_assigned_32 X d p0 p1 (zs_i S b3 ((zs_I S 8097 p0) - (2 : Int32)).toNatClampNeg) S6 Q)))) Q))) ∧ (¬ ((zs_I S 8010 p0) ≤ 0) → (Q (.returned none) S))))
theorem u_X9_assigned {σ : Nat → Nat} {n0 : Nat} {bf : ab_B} {d : Nat} {p0 : Nat} {p1 : Int32} {S : zs_T} {Q : zs_Q} (hB : zt_B bf) (hd : 1 ≤ d) (h : w_X9_assigned (zx σ n0 bf) (d - 1) p0 p1 S Q) : zs_C (zx σ n0 bf) d 8174 [.ref p0, .int p1] S Q := by
  have hL : lv_args 0 [.ref p0, .int p1] = [(0, .ref p0), (1, .int p1)] := rfl
  refine zs_C.of1 (hB.2 8174 (by decide) (by decide)) hd (by rw [hL]; exact zs_sub_self _ (by exact ⟨rfl, rfl, trivial⟩)) ?_
  rw [hL]
  clear hL
  unfold w_X9_assigned at h
  refine zu_aload_n d_8174_0 rfl (zs_ra _) ?_
  obtain ⟨k1, h⟩ := h
  refine zg_8_444 rfl d_8174_1 k1 ?_
  refine zu_ifle (t := 8) d_8174_4 rfl (fun c2 => ?_) (fun c2 => ?_)
  · have h := h.1 c2
    refine zu_aload_n d_8174_8 rfl (zs_ra _) ?_
    refine zg_8_191 rfl d_8174_9 k1 ?_
    refine zu_aload_n d_8174_12 rfl (zs_ra _) ?_
    refine zg_8_653 rfl d_8174_13 k1 ?_
    refine zu_iconst d_8174_16 zi_2 ?_
    refine zu_stk d_8174_17 rfl rfl ?_
    obtain ⟨b3, e4, h⟩ := h
    refine zs_stk1 (zs_rfe e4) ?_
    obtain ⟨k5, h⟩ := h
    refine zu_iald (k := 0) d_8174_18 rfl rfl k5 ?_
    refine zu_istore_n d_8174_19 (zs_lt zq_8174 rfl) ?_
    refine zu_aload_n d_8174_20 rfl (zs_ra _) ?_
    refine zu_iload_n d_8174_21 rfl ?_
    refine zc_8_752 (x0 := (zs_i S b3 ((zs_I S 8097 p0) - (2 : Int32)).toNatClampNeg)) hB rfl k1 d_8174_22 (Nat.le_of_ble_eq_true rfl) h (fun S6 h => ?_)
    refine zu_aload_n d_8174_25 rfl (zs_ra _) ?_
    obtain ⟨k8, h⟩ := h
    refine zg_8_444 rfl d_8174_26 k8 ?_
    refine zu_ifne (t := 45) d_8174_29 rfl (fun c9 => ?_) (fun c9 => ?_)
    · have h := h.1 c9
      exact (u_X9_assigned_45 hB h).weak ⟨rfl, rfl, rfl, trivial⟩
    · have h := h.2 c9
      exact (u_X9_assigned_32 hB h).weak ⟨rfl, rfl, rfl, trivial⟩
  · have h := h.2 c2
    exact zu_vret d_8174_7 zr_8174 h
/-! SchemaPascalModel.putOf(I)I -/
theorem zm_8175 {σ : Nat → Nat} {n0 : Nat} {bf : ab_B} : ab_code (zx σ n0 bf).1 8175 = prog_17_method_165_code := rfl
theorem zq_8175 {σ : Nat → Nat} {n0 : Nat} {bf : ab_B} : ab_maxL (zx σ n0 bf).1 8175 = 2 := rfl
theorem zr_8175 {σ : Nat → Nat} {n0 : Nat} {bf : ab_B} : ab_ret (zx σ n0 bf).1 8175 = (Option.some Jvm.ClassFile.FieldType.int) := rfl
theorem d_8175_0 {σ : Nat → Nat} {n0 : Nat} {bf : ab_B} : decode (ab_code (zx σ n0 bf).1 8175) 0 = .ok (.aload_n 0, 1) := zd zm_8175 (by decide +kernel)
theorem d_8175_1 {σ : Nat → Nat} {n0 : Nat} {bf : ab_B} : decode (ab_code (zx σ n0 bf).1 8175) 1 = .ok (.iload_n 1, 1) := zd zm_8175 (by decide +kernel)
theorem d_8175_2 {σ : Nat → Nat} {n0 : Nat} {bf : ab_B} : decode (ab_code (zx σ n0 bf).1 8175) 2 = .ok (.invokevirtual 564, 3) := zd zm_8175 (by decide +kernel)
theorem d_8175_5 {σ : Nat → Nat} {n0 : Nat} {bf : ab_B} : decode (ab_code (zx σ n0 bf).1 8175) 5 = .ok (.ifCond .eq 8, 3) := zd zm_8175 (by decide +kernel)
theorem d_8175_8 {σ : Nat → Nat} {n0 : Nat} {bf : ab_B} : decode (ab_code (zx σ n0 bf).1 8175) 8 = .ok (.bipush 90, 2) := zd zm_8175 (by decide +kernel)
theorem d_8175_10 {σ : Nat → Nat} {n0 : Nat} {bf : ab_B} : decode (ab_code (zx σ n0 bf).1 8175) 10 = .ok (.goto 53, 3) := zd zm_8175 (by decide +kernel)
theorem d_8175_13 {σ : Nat → Nat} {n0 : Nat} {bf : ab_B} : decode (ab_code (zx σ n0 bf).1 8175) 13 = .ok (.aload_n 0, 1) := zd zm_8175 (by decide +kernel)
theorem d_8175_14 {σ : Nat → Nat} {n0 : Nat} {bf : ab_B} : decode (ab_code (zx σ n0 bf).1 8175) 14 = .ok (.getfield 90, 3) := zd zm_8175 (by decide +kernel)
theorem d_8175_17 {σ : Nat → Nat} {n0 : Nat} {bf : ab_B} : decode (ab_code (zx σ n0 bf).1 8175) 17 = .ok (.iload_n 1, 1) := zd zm_8175 (by decide +kernel)
theorem d_8175_18 {σ : Nat → Nat} {n0 : Nat} {bf : ab_B} : decode (ab_code (zx σ n0 bf).1 8175) 18 = .ok (.baload, 1) := zd zm_8175 (by decide +kernel)
theorem d_8175_19 {σ : Nat → Nat} {n0 : Nat} {bf : ab_B} : decode (ab_code (zx σ n0 bf).1 8175) 19 = .ok (.bipush 7, 2) := zd zm_8175 (by decide +kernel)
theorem d_8175_21 {σ : Nat → Nat} {n0 : Nat} {bf : ab_B} : decode (ab_code (zx σ n0 bf).1 8175) 21 = .ok (.if_icmp .ne 8, 3) := zd zm_8175 (by decide +kernel)
theorem d_8175_24 {σ : Nat → Nat} {n0 : Nat} {bf : ab_B} : decode (ab_code (zx σ n0 bf).1 8175) 24 = .ok (.bipush 91, 2) := zd zm_8175 (by decide +kernel)
theorem d_8175_26 {σ : Nat → Nat} {n0 : Nat} {bf : ab_B} : decode (ab_code (zx σ n0 bf).1 8175) 26 = .ok (.goto 37, 3) := zd zm_8175 (by decide +kernel)
theorem d_8175_29 {σ : Nat → Nat} {n0 : Nat} {bf : ab_B} : decode (ab_code (zx σ n0 bf).1 8175) 29 = .ok (.aload_n 0, 1) := zd zm_8175 (by decide +kernel)
theorem d_8175_30 {σ : Nat → Nat} {n0 : Nat} {bf : ab_B} : decode (ab_code (zx σ n0 bf).1 8175) 30 = .ok (.getfield 90, 3) := zd zm_8175 (by decide +kernel)
theorem d_8175_33 {σ : Nat → Nat} {n0 : Nat} {bf : ab_B} : decode (ab_code (zx σ n0 bf).1 8175) 33 = .ok (.iload_n 1, 1) := zd zm_8175 (by decide +kernel)
theorem d_8175_34 {σ : Nat → Nat} {n0 : Nat} {bf : ab_B} : decode (ab_code (zx σ n0 bf).1 8175) 34 = .ok (.baload, 1) := zd zm_8175 (by decide +kernel)
theorem d_8175_35 {σ : Nat → Nat} {n0 : Nat} {bf : ab_B} : decode (ab_code (zx σ n0 bf).1 8175) 35 = .ok (.bipush 6, 2) := zd zm_8175 (by decide +kernel)
theorem d_8175_37 {σ : Nat → Nat} {n0 : Nat} {bf : ab_B} : decode (ab_code (zx σ n0 bf).1 8175) 37 = .ok (.if_icmp .ne 8, 3) := zd zm_8175 (by decide +kernel)
theorem d_8175_40 {σ : Nat → Nat} {n0 : Nat} {bf : ab_B} : decode (ab_code (zx σ n0 bf).1 8175) 40 = .ok (.bipush 92, 2) := zd zm_8175 (by decide +kernel)
theorem d_8175_42 {σ : Nat → Nat} {n0 : Nat} {bf : ab_B} : decode (ab_code (zx σ n0 bf).1 8175) 42 = .ok (.goto 21, 3) := zd zm_8175 (by decide +kernel)
theorem d_8175_45 {σ : Nat → Nat} {n0 : Nat} {bf : ab_B} : decode (ab_code (zx σ n0 bf).1 8175) 45 = .ok (.aload_n 0, 1) := zd zm_8175 (by decide +kernel)
theorem d_8175_46 {σ : Nat → Nat} {n0 : Nat} {bf : ab_B} : decode (ab_code (zx σ n0 bf).1 8175) 46 = .ok (.getfield 90, 3) := zd zm_8175 (by decide +kernel)
theorem d_8175_49 {σ : Nat → Nat} {n0 : Nat} {bf : ab_B} : decode (ab_code (zx σ n0 bf).1 8175) 49 = .ok (.iload_n 1, 1) := zd zm_8175 (by decide +kernel)
theorem d_8175_50 {σ : Nat → Nat} {n0 : Nat} {bf : ab_B} : decode (ab_code (zx σ n0 bf).1 8175) 50 = .ok (.baload, 1) := zd zm_8175 (by decide +kernel)
theorem d_8175_51 {σ : Nat → Nat} {n0 : Nat} {bf : ab_B} : decode (ab_code (zx σ n0 bf).1 8175) 51 = .ok (.bipush 10, 2) := zd zm_8175 (by decide +kernel)
theorem d_8175_53 {σ : Nat → Nat} {n0 : Nat} {bf : ab_B} : decode (ab_code (zx σ n0 bf).1 8175) 53 = .ok (.if_icmp .ne 8, 3) := zd zm_8175 (by decide +kernel)
theorem d_8175_56 {σ : Nat → Nat} {n0 : Nat} {bf : ab_B} : decode (ab_code (zx σ n0 bf).1 8175) 56 = .ok (.bipush 93, 2) := zd zm_8175 (by decide +kernel)
theorem d_8175_58 {σ : Nat → Nat} {n0 : Nat} {bf : ab_B} : decode (ab_code (zx σ n0 bf).1 8175) 58 = .ok (.goto 5, 3) := zd zm_8175 (by decide +kernel)
theorem d_8175_61 {σ : Nat → Nat} {n0 : Nat} {bf : ab_B} : decode (ab_code (zx σ n0 bf).1 8175) 61 = .ok (.bipush 94, 2) := zd zm_8175 (by decide +kernel)
theorem d_8175_63 {σ : Nat → Nat} {n0 : Nat} {bf : ab_B} : decode (ab_code (zx σ n0 bf).1 8175) 63 = .ok (.ireturn, 1) := zd zm_8175 (by decide +kernel)
def w_X9_putOf_40 (X : zs_X) (d : Nat)  (S : zs_T) (Q : zs_Q) : Prop :=
  (Q (.returned (some (.int (92 : Int32)))) S)
theorem u_X9_putOf_40 {σ : Nat → Nat} {n0 : Nat} {bf : ab_B} {d : Nat}  {S : zs_T} {Q : zs_Q} (hB : zt_B bf) (h : w_X9_putOf_40 (zx σ n0 bf) d  S Q) : zs_U (zx σ n0 bf) d 8175 40 [] [] S Q := by
  unfold w_X9_putOf_40 at h
  refine zu_bipush d_8175_40 zj_92 ?_
  refine zu_goto (t := 63) d_8175_42 rfl ?_
  exact zu_iret d_8175_63 zr_8175 rfl h
def w_X9_putOf_45 (X : zs_X) (d : Nat) (p0 : Nat) (p1 : Int32) (S : zs_T) (Q : zs_Q) : Prop :=
  (zs_K S p0 = some (.inl 8) ∧ ∃ b2, (zs_R S 8044 p0) = some b2 ∧ zs_A S b2 1 p1 ∧ ((¬ (zs_i S b2 p1.toNatClampNeg) = (10 : Int32) → (Q (.returned (some (.int (94 : Int32)))) S)) ∧ (¬ (¬ (zs_i S b2 p1.toNatClampNeg) = (10 : Int32)) → (Q (.returned (some (.int (93 : Int32)))) S))))
theorem u_X9_putOf_45 {σ : Nat → Nat} {n0 : Nat} {bf : ab_B} {d : Nat} {p0 : Nat} {p1 : Int32} {S : zs_T} {Q : zs_Q} (hB : zt_B bf) (h : w_X9_putOf_45 (zx σ n0 bf) d p0 p1 S Q) : zs_U (zx σ n0 bf) d 8175 45 [(0, .ref p0), (1, .int p1)] [] S Q := by
  unfold w_X9_putOf_45 at h
  refine zu_aload_n d_8175_45 rfl (zs_ra _) ?_
  obtain ⟨k1, h⟩ := h
  refine zg_8_90 rfl d_8175_46 k1 ?_
  refine zu_iload_n d_8175_49 rfl ?_
  obtain ⟨b2, e3, h⟩ := h
  refine zs_stk1 (zs_rfe e3) ?_
  obtain ⟨k4, h⟩ := h
  refine zu_bald (k := 1) d_8175_50 rfl (Or.inl rfl) k4 ?_
  refine zu_bipush d_8175_51 zj_10 ?_
  refine zu_cmpne (t := 61) d_8175_53 rfl (fun c5 => ?_) (fun c5 => ?_)
  · have h := h.1 c5
    refine zu_bipush d_8175_61 zj_94 ?_
    exact zu_iret d_8175_63 zr_8175 rfl h
  · have h := h.2 c5
    refine zu_bipush d_8175_56 zj_93 ?_
    refine zu_goto (t := 63) d_8175_58 rfl ?_
    exact zu_iret d_8175_63 zr_8175 rfl h
def w_X9_putOf (X : zs_X) (d : Nat) (p0 : Nat) (p1 : Int32) (S : zs_T) (Q : zs_Q) : Prop :=
  (zs_K S p0 = some (.inl 8) ∧ zs_C X d 8036 [.ref p0, .int p1] S (zs_kI (fun v3 S2 => (((v3 = 0 → (zs_K S2 p0 = some (.inl 8) ∧ ∃ b6, (zs_R S2 8044 p0) = some b6 ∧ zs_A S2 b6 1 p1 ∧ ((¬ (zs_i S2 b6 p1.toNatClampNeg) = (7 : Int32) → (((¬ (zs_i S2 b6 p1.toNatClampNeg) = (6 : Int32) → w_X9_putOf_45 X d p0 p1 S2 Q) ∧ (¬ (¬ (zs_i S2 b6 p1.toNatClampNeg) = (6 : Int32)) → w_X9_putOf_40 X d  S2 Q)))) ∧ (¬ (¬ (zs_i S2 b6 p1.toNatClampNeg) = (7 : Int32)) → (Q (.returned (some (.int (91 : Int32)))) S2))))) ∧ (¬ (v3 = 0) → (Q (.returned (some (.int (90 : Int32)))) S2))))) Q))
theorem u_X9_putOf {σ : Nat → Nat} {n0 : Nat} {bf : ab_B} {d : Nat} {p0 : Nat} {p1 : Int32} {S : zs_T} {Q : zs_Q} (hB : zt_B bf) (hd : 1 ≤ d) (h : w_X9_putOf (zx σ n0 bf) (d - 1) p0 p1 S Q) : zs_C (zx σ n0 bf) d 8175 [.ref p0, .int p1] S Q := by
  have hL : lv_args 0 [.ref p0, .int p1] = [(0, .ref p0), (1, .int p1)] := rfl
  refine zs_C.of1 (hB.2 8175 (by decide) (by decide)) hd (by rw [hL]; exact zs_sub_self _ (by exact ⟨rfl, rfl, trivial⟩)) ?_
  rw [hL]
  clear hL
  unfold w_X9_putOf at h
  refine zu_aload_n d_8175_0 rfl (zs_ra _) ?_
  refine zu_iload_n d_8175_1 rfl ?_
  obtain ⟨k1, h⟩ := h
  refine zc_8_564 (x0 := p1) hB rfl k1 d_8175_2 (Nat.le_of_ble_eq_true rfl) h (fun v3 S2 h => ?_)
  refine zu_ifeq (t := 13) d_8175_5 rfl (fun c4 => ?_) (fun c4 => ?_)
  · have h := h.1 c4
    refine zu_aload_n d_8175_13 rfl (zs_ra _) ?_
    obtain ⟨k5, h⟩ := h
    refine zg_8_90 rfl d_8175_14 k5 ?_
    refine zu_iload_n d_8175_17 rfl ?_
    obtain ⟨b6, e7, h⟩ := h
    refine zs_stk1 (zs_rfe e7) ?_
    obtain ⟨k8, h⟩ := h
    refine zu_bald (k := 1) d_8175_18 rfl (Or.inl rfl) k8 ?_
    refine zu_bipush d_8175_19 zj_7 ?_
    refine zu_cmpne (t := 29) d_8175_21 rfl (fun c9 => ?_) (fun c9 => ?_)
    · have h := h.1 c9
      refine zu_aload_n d_8175_29 rfl (zs_ra _) ?_
      refine zg_8_90 rfl d_8175_30 k5 ?_
      refine zu_iload_n d_8175_33 rfl ?_
      refine zs_stk1 (zs_rfe e7) ?_
      refine zu_bald (k := 1) d_8175_34 rfl (Or.inl rfl) k8 ?_
      refine zu_bipush d_8175_35 zj_6 ?_
      refine zu_cmpne (t := 45) d_8175_37 rfl (fun c10 => ?_) (fun c10 => ?_)
      · have h := h.1 c10
        exact (u_X9_putOf_45 hB h).weak ⟨rfl, rfl, trivial⟩
      · have h := h.2 c10
        exact (u_X9_putOf_40 hB h).weak trivial
    · have h := h.2 c9
      refine zu_bipush d_8175_24 zj_91 ?_
      refine zu_goto (t := 63) d_8175_26 rfl ?_
      exact zu_iret d_8175_63 zr_8175 rfl h
  · have h := h.2 c4
    refine zu_bipush d_8175_8 zj_90 ?_
    refine zu_goto (t := 63) d_8175_10 rfl ?_
    exact zu_iret d_8175_63 zr_8175 rfl h
/-! SchemaPascalModel.resulted(II)V -/
theorem zm_8176 {σ : Nat → Nat} {n0 : Nat} {bf : ab_B} : ab_code (zx σ n0 bf).1 8176 = prog_17_method_167_code := rfl
theorem zq_8176 {σ : Nat → Nat} {n0 : Nat} {bf : ab_B} : ab_maxL (zx σ n0 bf).1 8176 = 5 := rfl
theorem zr_8176 {σ : Nat → Nat} {n0 : Nat} {bf : ab_B} : ab_ret (zx σ n0 bf).1 8176 = (Option.none : Option Jvm.ClassFile.FieldType) := rfl
theorem d_8176_0 {σ : Nat → Nat} {n0 : Nat} {bf : ab_B} : decode (ab_code (zx σ n0 bf).1 8176) 0 = .ok (.aload_n 0, 1) := zd zm_8176 (by decide +kernel)
theorem d_8176_1 {σ : Nat → Nat} {n0 : Nat} {bf : ab_B} : decode (ab_code (zx σ n0 bf).1 8176) 1 = .ok (.getfield 215, 3) := zd zm_8176 (by decide +kernel)
theorem d_8176_4 {σ : Nat → Nat} {n0 : Nat} {bf : ab_B} : decode (ab_code (zx σ n0 bf).1 8176) 4 = .ok (.iload_n 1, 1) := zd zm_8176 (by decide +kernel)
theorem d_8176_5 {σ : Nat → Nat} {n0 : Nat} {bf : ab_B} : decode (ab_code (zx σ n0 bf).1 8176) 5 = .ok (.iaload, 1) := zd zm_8176 (by decide +kernel)
theorem d_8176_6 {σ : Nat → Nat} {n0 : Nat} {bf : ab_B} : decode (ab_code (zx σ n0 bf).1 8176) 6 = .ok (.istore_n 3, 1) := zd zm_8176 (by decide +kernel)
theorem d_8176_7 {σ : Nat → Nat} {n0 : Nat} {bf : ab_B} : decode (ab_code (zx σ n0 bf).1 8176) 7 = .ok (.aload_n 0, 1) := zd zm_8176 (by decide +kernel)
theorem d_8176_8 {σ : Nat → Nat} {n0 : Nat} {bf : ab_B} : decode (ab_code (zx σ n0 bf).1 8176) 8 = .ok (.getfield 444, 3) := zd zm_8176 (by decide +kernel)
theorem d_8176_11 {σ : Nat → Nat} {n0 : Nat} {bf : ab_B} : decode (ab_code (zx σ n0 bf).1 8176) 11 = .ok (.ifCond .le 4, 3) := zd zm_8176 (by decide +kernel)
theorem d_8176_14 {σ : Nat → Nat} {n0 : Nat} {bf : ab_B} : decode (ab_code (zx σ n0 bf).1 8176) 14 = .ok (.return_, 1) := zd zm_8176 (by decide +kernel)
theorem d_8176_15 {σ : Nat → Nat} {n0 : Nat} {bf : ab_B} : decode (ab_code (zx σ n0 bf).1 8176) 15 = .ok (.aload_n 0, 1) := zd zm_8176 (by decide +kernel)
theorem d_8176_16 {σ : Nat → Nat} {n0 : Nat} {bf : ab_B} : decode (ab_code (zx σ n0 bf).1 8176) 16 = .ok (.iload_n 3, 1) := zd zm_8176 (by decide +kernel)
theorem d_8176_17 {σ : Nat → Nat} {n0 : Nat} {bf : ab_B} : decode (ab_code (zx σ n0 bf).1 8176) 17 = .ok (.invokevirtual 752, 3) := zd zm_8176 (by decide +kernel)
theorem d_8176_20 {σ : Nat → Nat} {n0 : Nat} {bf : ab_B} : decode (ab_code (zx σ n0 bf).1 8176) 20 = .ok (.aload_n 0, 1) := zd zm_8176 (by decide +kernel)
theorem d_8176_21 {σ : Nat → Nat} {n0 : Nat} {bf : ab_B} : decode (ab_code (zx σ n0 bf).1 8176) 21 = .ok (.getfield 444, 3) := zd zm_8176 (by decide +kernel)
theorem d_8176_24 {σ : Nat → Nat} {n0 : Nat} {bf : ab_B} : decode (ab_code (zx σ n0 bf).1 8176) 24 = .ok (.ifCond .ne 16, 3) := zd zm_8176 (by decide +kernel)
theorem d_8176_27 {σ : Nat → Nat} {n0 : Nat} {bf : ab_B} : decode (ab_code (zx σ n0 bf).1 8176) 27 = .ok (.aload_n 0, 1) := zd zm_8176 (by decide +kernel)
theorem d_8176_28 {σ : Nat → Nat} {n0 : Nat} {bf : ab_B} : decode (ab_code (zx σ n0 bf).1 8176) 28 = .ok (.iload_n 3, 1) := zd zm_8176 (by decide +kernel)
theorem d_8176_29 {σ : Nat → Nat} {n0 : Nat} {bf : ab_B} : decode (ab_code (zx σ n0 bf).1 8176) 29 = .ok (.invokevirtual 755, 3) := zd zm_8176 (by decide +kernel)
theorem d_8176_32 {σ : Nat → Nat} {n0 : Nat} {bf : ab_B} : decode (ab_code (zx σ n0 bf).1 8176) 32 = .ok (.ifCond .ne 8, 3) := zd zm_8176 (by decide +kernel)
theorem d_8176_35 {σ : Nat → Nat} {n0 : Nat} {bf : ab_B} : decode (ab_code (zx σ n0 bf).1 8176) 35 = .ok (.aload_n 0, 1) := zd zm_8176 (by decide +kernel)
theorem d_8176_36 {σ : Nat → Nat} {n0 : Nat} {bf : ab_B} : decode (ab_code (zx σ n0 bf).1 8176) 36 = .ok (.iconst 5, 1) := zd zm_8176 (by decide +kernel)
theorem d_8176_37 {σ : Nat → Nat} {n0 : Nat} {bf : ab_B} : decode (ab_code (zx σ n0 bf).1 8176) 37 = .ok (.invokevirtual 541, 3) := zd zm_8176 (by decide +kernel)
theorem d_8176_40 {σ : Nat → Nat} {n0 : Nat} {bf : ab_B} : decode (ab_code (zx σ n0 bf).1 8176) 40 = .ok (.aload_n 0, 1) := zd zm_8176 (by decide +kernel)
theorem d_8176_41 {σ : Nat → Nat} {n0 : Nat} {bf : ab_B} : decode (ab_code (zx σ n0 bf).1 8176) 41 = .ok (.getfield 444, 3) := zd zm_8176 (by decide +kernel)
theorem d_8176_44 {σ : Nat → Nat} {n0 : Nat} {bf : ab_B} : decode (ab_code (zx σ n0 bf).1 8176) 44 = .ok (.ifCond .le 4, 3) := zd zm_8176 (by decide +kernel)
theorem d_8176_47 {σ : Nat → Nat} {n0 : Nat} {bf : ab_B} : decode (ab_code (zx σ n0 bf).1 8176) 47 = .ok (.return_, 1) := zd zm_8176 (by decide +kernel)
theorem d_8176_48 {σ : Nat → Nat} {n0 : Nat} {bf : ab_B} : decode (ab_code (zx σ n0 bf).1 8176) 48 = .ok (.aload_n 0, 1) := zd zm_8176 (by decide +kernel)
theorem d_8176_49 {σ : Nat → Nat} {n0 : Nat} {bf : ab_B} : decode (ab_code (zx σ n0 bf).1 8176) 49 = .ok (.getfield 90, 3) := zd zm_8176 (by decide +kernel)
theorem d_8176_52 {σ : Nat → Nat} {n0 : Nat} {bf : ab_B} : decode (ab_code (zx σ n0 bf).1 8176) 52 = .ok (.iload_n 3, 1) := zd zm_8176 (by decide +kernel)
theorem d_8176_53 {σ : Nat → Nat} {n0 : Nat} {bf : ab_B} : decode (ab_code (zx σ n0 bf).1 8176) 53 = .ok (.baload, 1) := zd zm_8176 (by decide +kernel)
theorem d_8176_54 {σ : Nat → Nat} {n0 : Nat} {bf : ab_B} : decode (ab_code (zx σ n0 bf).1 8176) 54 = .ok (.bipush 7, 2) := zd zm_8176 (by decide +kernel)
theorem d_8176_56 {σ : Nat → Nat} {n0 : Nat} {bf : ab_B} : decode (ab_code (zx σ n0 bf).1 8176) 56 = .ok (.if_icmp .ne 42, 3) := zd zm_8176 (by decide +kernel)
theorem d_8176_59 {σ : Nat → Nat} {n0 : Nat} {bf : ab_B} : decode (ab_code (zx σ n0 bf).1 8176) 59 = .ok (.aload_n 0, 1) := zd zm_8176 (by decide +kernel)
theorem d_8176_60 {σ : Nat → Nat} {n0 : Nat} {bf : ab_B} : decode (ab_code (zx σ n0 bf).1 8176) 60 = .ok (.aload_n 0, 1) := zd zm_8176 (by decide +kernel)
theorem d_8176_61 {σ : Nat → Nat} {n0 : Nat} {bf : ab_B} : decode (ab_code (zx σ n0 bf).1 8176) 61 = .ok (.getfield 191, 3) := zd zm_8176 (by decide +kernel)
theorem d_8176_64 {σ : Nat → Nat} {n0 : Nat} {bf : ab_B} : decode (ab_code (zx σ n0 bf).1 8176) 64 = .ok (.aload_n 0, 1) := zd zm_8176 (by decide +kernel)
theorem d_8176_65 {σ : Nat → Nat} {n0 : Nat} {bf : ab_B} : decode (ab_code (zx σ n0 bf).1 8176) 65 = .ok (.getfield 653, 3) := zd zm_8176 (by decide +kernel)
theorem d_8176_68 {σ : Nat → Nat} {n0 : Nat} {bf : ab_B} : decode (ab_code (zx σ n0 bf).1 8176) 68 = .ok (.iconst 1, 1) := zd zm_8176 (by decide +kernel)
theorem d_8176_69 {σ : Nat → Nat} {n0 : Nat} {bf : ab_B} : decode (ab_code (zx σ n0 bf).1 8176) 69 = .ok (.isub, 1) := zd zm_8176 (by decide +kernel)
theorem d_8176_70 {σ : Nat → Nat} {n0 : Nat} {bf : ab_B} : decode (ab_code (zx σ n0 bf).1 8176) 70 = .ok (.iaload, 1) := zd zm_8176 (by decide +kernel)
theorem d_8176_71 {σ : Nat → Nat} {n0 : Nat} {bf : ab_B} : decode (ab_code (zx σ n0 bf).1 8176) 71 = .ok (.invokevirtual 676, 3) := zd zm_8176 (by decide +kernel)
theorem d_8176_74 {σ : Nat → Nat} {n0 : Nat} {bf : ab_B} : decode (ab_code (zx σ n0 bf).1 8176) 74 = .ok (.ifCond .ne 24, 3) := zd zm_8176 (by decide +kernel)
theorem d_8176_77 {σ : Nat → Nat} {n0 : Nat} {bf : ab_B} : decode (ab_code (zx σ n0 bf).1 8176) 77 = .ok (.aload_n 0, 1) := zd zm_8176 (by decide +kernel)
theorem d_8176_78 {σ : Nat → Nat} {n0 : Nat} {bf : ab_B} : decode (ab_code (zx σ n0 bf).1 8176) 78 = .ok (.bipush 10, 2) := zd zm_8176 (by decide +kernel)
theorem d_8176_80 {σ : Nat → Nat} {n0 : Nat} {bf : ab_B} : decode (ab_code (zx σ n0 bf).1 8176) 80 = .ok (.iconst 0, 1) := zd zm_8176 (by decide +kernel)
theorem d_8176_81 {σ : Nat → Nat} {n0 : Nat} {bf : ab_B} : decode (ab_code (zx σ n0 bf).1 8176) 81 = .ok (.iconst 0, 1) := zd zm_8176 (by decide +kernel)
theorem d_8176_82 {σ : Nat → Nat} {n0 : Nat} {bf : ab_B} : decode (ab_code (zx σ n0 bf).1 8176) 82 = .ok (.aload_n 0, 1) := zd zm_8176 (by decide +kernel)
theorem d_8176_83 {σ : Nat → Nat} {n0 : Nat} {bf : ab_B} : decode (ab_code (zx σ n0 bf).1 8176) 83 = .ok (.getfield 206, 3) := zd zm_8176 (by decide +kernel)
theorem d_8176_86 {σ : Nat → Nat} {n0 : Nat} {bf : ab_B} : decode (ab_code (zx σ n0 bf).1 8176) 86 = .ok (.aload_n 0, 1) := zd zm_8176 (by decide +kernel)
theorem d_8176_87 {σ : Nat → Nat} {n0 : Nat} {bf : ab_B} : decode (ab_code (zx σ n0 bf).1 8176) 87 = .ok (.getfield 653, 3) := zd zm_8176 (by decide +kernel)
theorem d_8176_90 {σ : Nat → Nat} {n0 : Nat} {bf : ab_B} : decode (ab_code (zx σ n0 bf).1 8176) 90 = .ok (.iconst 1, 1) := zd zm_8176 (by decide +kernel)
theorem d_8176_91 {σ : Nat → Nat} {n0 : Nat} {bf : ab_B} : decode (ab_code (zx σ n0 bf).1 8176) 91 = .ok (.isub, 1) := zd zm_8176 (by decide +kernel)
theorem d_8176_92 {σ : Nat → Nat} {n0 : Nat} {bf : ab_B} : decode (ab_code (zx σ n0 bf).1 8176) 92 = .ok (.iaload, 1) := zd zm_8176 (by decide +kernel)
theorem d_8176_93 {σ : Nat → Nat} {n0 : Nat} {bf : ab_B} : decode (ab_code (zx σ n0 bf).1 8176) 93 = .ok (.invokevirtual 656, 3) := zd zm_8176 (by decide +kernel)
theorem d_8176_96 {σ : Nat → Nat} {n0 : Nat} {bf : ab_B} : decode (ab_code (zx σ n0 bf).1 8176) 96 = .ok (.istore 4, 2) := zd zm_8176 (by decide +kernel)
theorem d_8176_98 {σ : Nat → Nat} {n0 : Nat} {bf : ab_B} : decode (ab_code (zx σ n0 bf).1 8176) 98 = .ok (.aload_n 0, 1) := zd zm_8176 (by decide +kernel)
theorem d_8176_99 {σ : Nat → Nat} {n0 : Nat} {bf : ab_B} : decode (ab_code (zx σ n0 bf).1 8176) 99 = .ok (.bipush 95, 2) := zd zm_8176 (by decide +kernel)
theorem d_8176_101 {σ : Nat → Nat} {n0 : Nat} {bf : ab_B} : decode (ab_code (zx σ n0 bf).1 8176) 101 = .ok (.iconst 0, 1) := zd zm_8176 (by decide +kernel)
theorem d_8176_102 {σ : Nat → Nat} {n0 : Nat} {bf : ab_B} : decode (ab_code (zx σ n0 bf).1 8176) 102 = .ok (.iconst 0, 1) := zd zm_8176 (by decide +kernel)
theorem d_8176_103 {σ : Nat → Nat} {n0 : Nat} {bf : ab_B} : decode (ab_code (zx σ n0 bf).1 8176) 103 = .ok (.iload_n 2, 1) := zd zm_8176 (by decide +kernel)
theorem d_8176_104 {σ : Nat → Nat} {n0 : Nat} {bf : ab_B} : decode (ab_code (zx σ n0 bf).1 8176) 104 = .ok (.invokevirtual 656, 3) := zd zm_8176 (by decide +kernel)
theorem d_8176_107 {σ : Nat → Nat} {n0 : Nat} {bf : ab_B} : decode (ab_code (zx σ n0 bf).1 8176) 107 = .ok (.istore 4, 2) := zd zm_8176 (by decide +kernel)
theorem d_8176_109 {σ : Nat → Nat} {n0 : Nat} {bf : ab_B} : decode (ab_code (zx σ n0 bf).1 8176) 109 = .ok (.aload_n 0, 1) := zd zm_8176 (by decide +kernel)
theorem d_8176_110 {σ : Nat → Nat} {n0 : Nat} {bf : ab_B} : decode (ab_code (zx σ n0 bf).1 8176) 110 = .ok (.aload_n 0, 1) := zd zm_8176 (by decide +kernel)
theorem d_8176_111 {σ : Nat → Nat} {n0 : Nat} {bf : ab_B} : decode (ab_code (zx σ n0 bf).1 8176) 111 = .ok (.iload_n 3, 1) := zd zm_8176 (by decide +kernel)
theorem d_8176_112 {σ : Nat → Nat} {n0 : Nat} {bf : ab_B} : decode (ab_code (zx σ n0 bf).1 8176) 112 = .ok (.invokevirtual 974, 3) := zd zm_8176 (by decide +kernel)
theorem d_8176_115 {σ : Nat → Nat} {n0 : Nat} {bf : ab_B} : decode (ab_code (zx σ n0 bf).1 8176) 115 = .ok (.iconst 0, 1) := zd zm_8176 (by decide +kernel)
theorem d_8176_116 {σ : Nat → Nat} {n0 : Nat} {bf : ab_B} : decode (ab_code (zx σ n0 bf).1 8176) 116 = .ok (.iconst 0, 1) := zd zm_8176 (by decide +kernel)
theorem d_8176_117 {σ : Nat → Nat} {n0 : Nat} {bf : ab_B} : decode (ab_code (zx σ n0 bf).1 8176) 117 = .ok (.iload_n 2, 1) := zd zm_8176 (by decide +kernel)
theorem d_8176_118 {σ : Nat → Nat} {n0 : Nat} {bf : ab_B} : decode (ab_code (zx σ n0 bf).1 8176) 118 = .ok (.invokevirtual 656, 3) := zd zm_8176 (by decide +kernel)
theorem d_8176_121 {σ : Nat → Nat} {n0 : Nat} {bf : ab_B} : decode (ab_code (zx σ n0 bf).1 8176) 121 = .ok (.istore 4, 2) := zd zm_8176 (by decide +kernel)
theorem d_8176_123 {σ : Nat → Nat} {n0 : Nat} {bf : ab_B} : decode (ab_code (zx σ n0 bf).1 8176) 123 = .ok (.aload_n 0, 1) := zd zm_8176 (by decide +kernel)
theorem d_8176_124 {σ : Nat → Nat} {n0 : Nat} {bf : ab_B} : decode (ab_code (zx σ n0 bf).1 8176) 124 = .ok (.dup, 1) := zd zm_8176 (by decide +kernel)
theorem d_8176_125 {σ : Nat → Nat} {n0 : Nat} {bf : ab_B} : decode (ab_code (zx σ n0 bf).1 8176) 125 = .ok (.getfield 653, 3) := zd zm_8176 (by decide +kernel)
theorem d_8176_128 {σ : Nat → Nat} {n0 : Nat} {bf : ab_B} : decode (ab_code (zx σ n0 bf).1 8176) 128 = .ok (.iconst 1, 1) := zd zm_8176 (by decide +kernel)
theorem d_8176_129 {σ : Nat → Nat} {n0 : Nat} {bf : ab_B} : decode (ab_code (zx σ n0 bf).1 8176) 129 = .ok (.isub, 1) := zd zm_8176 (by decide +kernel)
theorem d_8176_130 {σ : Nat → Nat} {n0 : Nat} {bf : ab_B} : decode (ab_code (zx σ n0 bf).1 8176) 130 = .ok (.putfield 653, 3) := zd zm_8176 (by decide +kernel)
theorem d_8176_133 {σ : Nat → Nat} {n0 : Nat} {bf : ab_B} : decode (ab_code (zx σ n0 bf).1 8176) 133 = .ok (.return_, 1) := zd zm_8176 (by decide +kernel)
def w_X9_resulted_123 (X : zs_X) (d : Nat) (p0 : Nat) (S : zs_T) (Q : zs_Q) : Prop :=
  (zs_K S p0 = some (.inl 8) ∧ ab_n0 X.1 ≤ p0 ∧ ∀ S3, S3 = zs_sI S 8097 p0 ((zs_I S 8097 p0) - (1 : Int32)) → Q (.returned none) S3)
theorem u_X9_resulted_123 {σ : Nat → Nat} {n0 : Nat} {bf : ab_B} {d : Nat} {p0 : Nat} {S : zs_T} {Q : zs_Q} (hB : zt_B bf) (h : w_X9_resulted_123 (zx σ n0 bf) d p0 S Q) : zs_U (zx σ n0 bf) d 8176 123 [(0, .ref p0)] [] S Q := by
  unfold w_X9_resulted_123 at h
  refine zu_aload_n d_8176_123 rfl (zs_ra _) ?_
  refine zu_dup d_8176_124 rfl ?_
  obtain ⟨k1, h⟩ := h
  refine zg_8_653 rfl d_8176_125 k1 ?_
  refine zu_iconst d_8176_128 zi_1 ?_
  refine zu_stk d_8176_129 rfl rfl ?_
  obtain ⟨k2, h⟩ := h
  refine zp_8_653 (v := ((zs_I S 8097 p0) - (1 : Int32))) rfl d_8176_130 k1 k2 ?_
  generalize e4 : zs_sI S 8097 p0 ((zs_I S 8097 p0) - (1 : Int32)) = S3
  have h := h S3 e4.symm
  have K5 : ∀ b, zs_K S3 b = zs_K S b := zs_Kt e4 (zs_KsI _ _ _ _) (fun _ => rfl)
  exact zu_vret d_8176_133 zr_8176 h
def w_X9_resulted_98 (X : zs_X) (d : Nat) (p0 : Nat) (p2 : Int32) (p3 : Int32) (S : zs_T) (Q : zs_Q) : Prop :=
  (zs_K S p0 = some (.inl 8) ∧ zs_C X d 8012 [.ref p0, .int (95 : Int32), .int (0 : Int32), .int (0 : Int32), .int p2] S (zs_kI (fun v3 S2 => (zs_K S2 p0 = some (.inl 8) ∧ zs_C X d 8175 [.ref p0, .int p3] S2 (zs_kI (fun v6 S5 => (zs_K S5 p0 = some (.inl 8) ∧ zs_C X d 8012 [.ref p0, .int v6, .int (0 : Int32), .int (0 : Int32), .int p2] S5 (zs_kI (fun v9 S8 => (w_X9_resulted_123 X d p0 S8 Q)) Q))) Q))) Q))
theorem u_X9_resulted_98 {σ : Nat → Nat} {n0 : Nat} {bf : ab_B} {d : Nat} {p0 : Nat} {p2 : Int32} {p3 : Int32} {S : zs_T} {Q : zs_Q} (hB : zt_B bf) (h : w_X9_resulted_98 (zx σ n0 bf) d p0 p2 p3 S Q) : zs_U (zx σ n0 bf) d 8176 98 [(0, .ref p0), (2, .int p2), (3, .int p3)] [] S Q := by
  unfold w_X9_resulted_98 at h
  refine zu_aload_n d_8176_98 rfl (zs_ra _) ?_
  refine zu_bipush d_8176_99 zj_95 ?_
  refine zu_iconst d_8176_101 zi_0 ?_
  refine zu_iconst d_8176_102 zi_0 ?_
  refine zu_iload_n d_8176_103 rfl ?_
  obtain ⟨k1, h⟩ := h
  refine zc_8_656 (x0 := (95 : Int32)) (x1 := (0 : Int32)) (x2 := (0 : Int32)) (x3 := p2) hB rfl k1 d_8176_104 (Nat.le_of_ble_eq_true rfl) h (fun v3 S2 h => ?_)
  refine zu_istore d_8176_107 (zs_lt zq_8176 rfl) ?_
  refine zu_aload_n d_8176_109 rfl (zs_ra _) ?_
  refine zu_aload_n d_8176_110 rfl (zs_ra _) ?_
  refine zu_iload_n d_8176_111 rfl ?_
  obtain ⟨k4, h⟩ := h
  refine zc_8_974 (x0 := p3) hB rfl k4 d_8176_112 (Nat.le_of_ble_eq_true rfl) h (fun v6 S5 h => ?_)
  refine zu_iconst d_8176_115 zi_0 ?_
  refine zu_iconst d_8176_116 zi_0 ?_
  refine zu_iload_n d_8176_117 rfl ?_
  obtain ⟨k7, h⟩ := h
  refine zc_8_656 (x0 := v6) (x1 := (0 : Int32)) (x2 := (0 : Int32)) (x3 := p2) hB rfl k7 d_8176_118 (Nat.le_of_ble_eq_true rfl) h (fun v9 S8 h => ?_)
  refine zu_istore d_8176_121 (zs_lt zq_8176 rfl) ?_
  exact (u_X9_resulted_123 hB h).weak ⟨rfl, trivial⟩
def w_X9_resulted_77 (X : zs_X) (d : Nat) (p0 : Nat) (p2 : Int32) (p3 : Int32) (S : zs_T) (Q : zs_Q) : Prop :=
  (zs_K S p0 = some (.inl 8) ∧ ∃ b2, (zs_R S 8096 p0) = some b2 ∧ zs_A S b2 0 ((zs_I S 8097 p0) - (1 : Int32)) ∧ zs_C X d 8012 [.ref p0, .int (10 : Int32), .int (0 : Int32), .int (0 : Int32), .int (zs_i S b2 ((zs_I S 8097 p0) - (1 : Int32)).toNatClampNeg)] S (zs_kI (fun v6 S5 => (w_X9_resulted_98 X d p0 p2 p3 S5 Q)) Q))
theorem u_X9_resulted_77 {σ : Nat → Nat} {n0 : Nat} {bf : ab_B} {d : Nat} {p0 : Nat} {p2 : Int32} {p3 : Int32} {S : zs_T} {Q : zs_Q} (hB : zt_B bf) (h : w_X9_resulted_77 (zx σ n0 bf) d p0 p2 p3 S Q) : zs_U (zx σ n0 bf) d 8176 77 [(0, .ref p0), (2, .int p2), (3, .int p3)] [] S Q := by
  unfold w_X9_resulted_77 at h
  refine zu_aload_n d_8176_77 rfl (zs_ra _) ?_
  refine zu_bipush d_8176_78 zj_10 ?_
  refine zu_iconst d_8176_80 zi_0 ?_
  refine zu_iconst d_8176_81 zi_0 ?_
  refine zu_aload_n d_8176_82 rfl (zs_ra _) ?_
  obtain ⟨k1, h⟩ := h
  refine zg_8_206 rfl d_8176_83 k1 ?_
  refine zu_aload_n d_8176_86 rfl (zs_ra _) ?_
  refine zg_8_653 rfl d_8176_87 k1 ?_
  refine zu_iconst d_8176_90 zi_1 ?_
  refine zu_stk d_8176_91 rfl rfl ?_
  obtain ⟨b2, e3, h⟩ := h
  refine zs_stk1 (zs_rfe e3) ?_
  obtain ⟨k4, h⟩ := h
  refine zu_iald (k := 0) d_8176_92 rfl rfl k4 ?_
  refine zc_8_656 (x0 := (10 : Int32)) (x1 := (0 : Int32)) (x2 := (0 : Int32)) (x3 := (zs_i S b2 ((zs_I S 8097 p0) - (1 : Int32)).toNatClampNeg)) hB rfl k1 d_8176_93 (Nat.le_of_ble_eq_true rfl) h (fun v6 S5 h => ?_)
  refine zu_istore d_8176_96 (zs_lt zq_8176 rfl) ?_
  exact (u_X9_resulted_98 hB h).weak ⟨rfl, rfl, rfl, trivial⟩
def w_X9_resulted_40 (X : zs_X) (d : Nat) (p0 : Nat) (p2 : Int32) (p3 : Int32) (S : zs_T) (Q : zs_Q) : Prop :=
  (zs_K S p0 = some (.inl 8) ∧ (((zs_I S 8010 p0) ≤ 0 → (∃ b3, (zs_R S 8044 p0) = some b3 ∧ zs_A S b3 1 p3 ∧ ((¬ (zs_i S b3 p3.toNatClampNeg) = (7 : Int32) → w_X9_resulted_98 X d p0 p2 p3 S Q) ∧ (¬ (¬ (zs_i S b3 p3.toNatClampNeg) = (7 : Int32)) → (∃ b7, (zs_R S 8091 p0) = some b7 ∧ zs_A S b7 0 ((zs_I S 8097 p0) - (1 : Int32)) ∧ zs_C X d 8044 [.ref p0, .int (zs_i S b7 ((zs_I S 8097 p0) - (1 : Int32)).toNatClampNeg)] S (zs_kI (fun v11 S10 => (((¬ v11 = 0 → w_X9_resulted_98 X d p0 p2 p3 S10 Q) ∧ (¬ (¬ v11 = 0) → w_X9_resulted_77 X d p0 p2 p3 S10 Q)))) Q)))))) ∧ (¬ ((zs_I S 8010 p0) ≤ 0) → (Q (.returned none) S))))
theorem u_X9_resulted_40 {σ : Nat → Nat} {n0 : Nat} {bf : ab_B} {d : Nat} {p0 : Nat} {p2 : Int32} {p3 : Int32} {S : zs_T} {Q : zs_Q} (hB : zt_B bf) (h : w_X9_resulted_40 (zx σ n0 bf) d p0 p2 p3 S Q) : zs_U (zx σ n0 bf) d 8176 40 [(0, .ref p0), (2, .int p2), (3, .int p3)] [] S Q := by
  unfold w_X9_resulted_40 at h
  refine zu_aload_n d_8176_40 rfl (zs_ra _) ?_
  obtain ⟨k1, h⟩ := h
  refine zg_8_444 rfl d_8176_41 k1 ?_
  refine zu_ifle (t := 48) d_8176_44 rfl (fun c2 => ?_) (fun c2 => ?_)
  · have h := h.1 c2
    refine zu_aload_n d_8176_48 rfl (zs_ra _) ?_
    refine zg_8_90 rfl d_8176_49 k1 ?_
    refine zu_iload_n d_8176_52 rfl ?_
    obtain ⟨b3, e4, h⟩ := h
    refine zs_stk1 (zs_rfe e4) ?_
    obtain ⟨k5, h⟩ := h
    refine zu_bald (k := 1) d_8176_53 rfl (Or.inl rfl) k5 ?_
    refine zu_bipush d_8176_54 zj_7 ?_
    refine zu_cmpne (t := 98) d_8176_56 rfl (fun c6 => ?_) (fun c6 => ?_)
    · have h := h.1 c6
      exact (u_X9_resulted_98 hB h).weak ⟨rfl, rfl, rfl, trivial⟩
    · have h := h.2 c6
      refine zu_aload_n d_8176_59 rfl (zs_ra _) ?_
      refine zu_aload_n d_8176_60 rfl (zs_ra _) ?_
      refine zg_8_191 rfl d_8176_61 k1 ?_
      refine zu_aload_n d_8176_64 rfl (zs_ra _) ?_
      refine zg_8_653 rfl d_8176_65 k1 ?_
      refine zu_iconst d_8176_68 zi_1 ?_
      refine zu_stk d_8176_69 rfl rfl ?_
      obtain ⟨b7, e8, h⟩ := h
      refine zs_stk1 (zs_rfe e8) ?_
      obtain ⟨k9, h⟩ := h
      refine zu_iald (k := 0) d_8176_70 rfl rfl k9 ?_
      refine zc_8_676 (x0 := (zs_i S b7 ((zs_I S 8097 p0) - (1 : Int32)).toNatClampNeg)) hB rfl k1 d_8176_71 (Nat.le_of_ble_eq_true rfl) h (fun v11 S10 h => ?_)
      refine zu_ifne (t := 98) d_8176_74 rfl (fun c12 => ?_) (fun c12 => ?_)
      · have h := h.1 c12
        exact (u_X9_resulted_98 hB h).weak ⟨rfl, rfl, rfl, trivial⟩
      · have h := h.2 c12
        exact (u_X9_resulted_77 hB h).weak ⟨rfl, rfl, rfl, trivial⟩
  · have h := h.2 c2
    exact zu_vret d_8176_47 zr_8176 h
def w_X9_resulted_35 (X : zs_X) (d : Nat) (p0 : Nat) (p2 : Int32) (p3 : Int32) (S : zs_T) (Q : zs_Q) : Prop :=
  (zs_K S p0 = some (.inl 8) ∧ zs_C X d 8027 [.ref p0, .int (5 : Int32)] S (zs_kV (fun S2 => w_X9_resulted_40 X d p0 p2 p3 S2 Q) Q))
theorem u_X9_resulted_35 {σ : Nat → Nat} {n0 : Nat} {bf : ab_B} {d : Nat} {p0 : Nat} {p2 : Int32} {p3 : Int32} {S : zs_T} {Q : zs_Q} (hB : zt_B bf) (h : w_X9_resulted_35 (zx σ n0 bf) d p0 p2 p3 S Q) : zs_U (zx σ n0 bf) d 8176 35 [(0, .ref p0), (2, .int p2), (3, .int p3)] [] S Q := by
  unfold w_X9_resulted_35 at h
  refine zu_aload_n d_8176_35 rfl (zs_ra _) ?_
  refine zu_iconst d_8176_36 zi_5 ?_
  obtain ⟨k1, h⟩ := h
  refine zc_8_541 (x0 := (5 : Int32)) hB rfl k1 d_8176_37 (Nat.le_of_ble_eq_true rfl) h (fun S2 h => ?_)
  exact (u_X9_resulted_40 hB h).weak ⟨rfl, rfl, rfl, trivial⟩
def w_X9_resulted (X : zs_X) (d : Nat) (p0 : Nat) (p1 : Int32) (p2 : Int32) (S : zs_T) (Q : zs_Q) : Prop :=
  (zs_K S p0 = some (.inl 8) ∧ ∃ b2, (zs_R S 8100 p0) = some b2 ∧ zs_A S b2 0 p1 ∧ (((zs_I S 8010 p0) ≤ 0 → (zs_C X d 8081 [.ref p0, .int (zs_i S b2 p1.toNatClampNeg)] S (zs_kV (fun S6 => (zs_K S6 p0 = some (.inl 8) ∧ ((¬ (zs_I S6 8010 p0) = 0 → w_X9_resulted_40 X d p0 p2 (zs_i S b2 p1.toNatClampNeg) S6 Q) ∧ (¬ (¬ (zs_I S6 8010 p0) = 0) → (zs_C X d 8082 [.ref p0, .int (zs_i S b2 p1.toNatClampNeg)] S6 (zs_kI (fun v11 S10 => (((¬ v11 = 0 → w_X9_resulted_40 X d p0 p2 (zs_i S b2 p1.toNatClampNeg) S10 Q) ∧ (¬ (¬ v11 = 0) → w_X9_resulted_35 X d p0 p2 (zs_i S b2 p1.toNatClampNeg) S10 Q)))) Q)))))) Q))) ∧ (¬ ((zs_I S 8010 p0) ≤ 0) → (Q (.returned none) S))))
theorem u_X9_resulted {σ : Nat → Nat} {n0 : Nat} {bf : ab_B} {d : Nat} {p0 : Nat} {p1 : Int32} {p2 : Int32} {S : zs_T} {Q : zs_Q} (hB : zt_B bf) (hd : 1 ≤ d) (h : w_X9_resulted (zx σ n0 bf) (d - 1) p0 p1 p2 S Q) : zs_C (zx σ n0 bf) d 8176 [.ref p0, .int p1, .int p2] S Q := by
  have hL : lv_args 0 [.ref p0, .int p1, .int p2] = [(0, .ref p0), (1, .int p1), (2, .int p2)] := rfl
  refine zs_C.of1 (hB.2 8176 (by decide) (by decide)) hd (by rw [hL]; exact zs_sub_self _ (by exact ⟨rfl, rfl, rfl, trivial⟩)) ?_
  rw [hL]
  clear hL
  unfold w_X9_resulted at h
  refine zu_aload_n d_8176_0 rfl (zs_ra _) ?_
  obtain ⟨k1, h⟩ := h
  refine zg_8_215 rfl d_8176_1 k1 ?_
  refine zu_iload_n d_8176_4 rfl ?_
  obtain ⟨b2, e3, h⟩ := h
  refine zs_stk1 (zs_rfe e3) ?_
  obtain ⟨k4, h⟩ := h
  refine zu_iald (k := 0) d_8176_5 rfl rfl k4 ?_
  refine zu_istore_n d_8176_6 (zs_lt zq_8176 rfl) ?_
  refine zu_aload_n d_8176_7 rfl (zs_ra _) ?_
  refine zg_8_444 rfl d_8176_8 k1 ?_
  refine zu_ifle (t := 15) d_8176_11 rfl (fun c5 => ?_) (fun c5 => ?_)
  · have h := h.1 c5
    refine zu_aload_n d_8176_15 rfl (zs_ra _) ?_
    refine zu_iload_n d_8176_16 rfl ?_
    refine zc_8_752 (x0 := (zs_i S b2 p1.toNatClampNeg)) hB rfl k1 d_8176_17 (Nat.le_of_ble_eq_true rfl) h (fun S6 h => ?_)
    refine zu_aload_n d_8176_20 rfl (zs_ra _) ?_
    obtain ⟨k8, h⟩ := h
    refine zg_8_444 rfl d_8176_21 k8 ?_
    refine zu_ifne (t := 40) d_8176_24 rfl (fun c9 => ?_) (fun c9 => ?_)
    · have h := h.1 c9
      exact (u_X9_resulted_40 hB h).weak ⟨rfl, rfl, rfl, trivial⟩
    · have h := h.2 c9
      refine zu_aload_n d_8176_27 rfl (zs_ra _) ?_
      refine zu_iload_n d_8176_28 rfl ?_
      refine zc_8_755 (x0 := (zs_i S b2 p1.toNatClampNeg)) hB rfl k8 d_8176_29 (Nat.le_of_ble_eq_true rfl) h (fun v11 S10 h => ?_)
      refine zu_ifne (t := 40) d_8176_32 rfl (fun c12 => ?_) (fun c12 => ?_)
      · have h := h.1 c12
        exact (u_X9_resulted_40 hB h).weak ⟨rfl, rfl, rfl, trivial⟩
      · have h := h.2 c12
        exact (u_X9_resulted_35 hB h).weak ⟨rfl, rfl, rfl, trivial⟩
  · have h := h.2 c5
    exact zu_vret d_8176_14 zr_8176 h
/-! SchemaPascalModel.then()V -/
theorem zm_8177 {σ : Nat → Nat} {n0 : Nat} {bf : ab_B} : ab_code (zx σ n0 bf).1 8177 = prog_17_method_169_code := rfl
theorem zq_8177 {σ : Nat → Nat} {n0 : Nat} {bf : ab_B} : ab_maxL (zx σ n0 bf).1 8177 = 1 := rfl
theorem zr_8177 {σ : Nat → Nat} {n0 : Nat} {bf : ab_B} : ab_ret (zx σ n0 bf).1 8177 = (Option.none : Option Jvm.ClassFile.FieldType) := rfl
theorem d_8177_0 {σ : Nat → Nat} {n0 : Nat} {bf : ab_B} : decode (ab_code (zx σ n0 bf).1 8177) 0 = .ok (.aload_n 0, 1) := zd zm_8177 (by decide +kernel)
theorem d_8177_1 {σ : Nat → Nat} {n0 : Nat} {bf : ab_B} : decode (ab_code (zx σ n0 bf).1 8177) 1 = .ok (.invokevirtual 977, 3) := zd zm_8177 (by decide +kernel)
theorem d_8177_4 {σ : Nat → Nat} {n0 : Nat} {bf : ab_B} : decode (ab_code (zx σ n0 bf).1 8177) 4 = .ok (.aload_n 0, 1) := zd zm_8177 (by decide +kernel)
theorem d_8177_5 {σ : Nat → Nat} {n0 : Nat} {bf : ab_B} : decode (ab_code (zx σ n0 bf).1 8177) 5 = .ok (.bipush 11, 2) := zd zm_8177 (by decide +kernel)
theorem d_8177_7 {σ : Nat → Nat} {n0 : Nat} {bf : ab_B} : decode (ab_code (zx σ n0 bf).1 8177) 7 = .ok (.invokevirtual 846, 3) := zd zm_8177 (by decide +kernel)
theorem d_8177_10 {σ : Nat → Nat} {n0 : Nat} {bf : ab_B} : decode (ab_code (zx σ n0 bf).1 8177) 10 = .ok (.aload_n 0, 1) := zd zm_8177 (by decide +kernel)
theorem d_8177_11 {σ : Nat → Nat} {n0 : Nat} {bf : ab_B} : decode (ab_code (zx σ n0 bf).1 8177) 11 = .ok (.bipush 108, 2) := zd zm_8177 (by decide +kernel)
theorem d_8177_13 {σ : Nat → Nat} {n0 : Nat} {bf : ab_B} : decode (ab_code (zx σ n0 bf).1 8177) 13 = .ok (.aload_n 0, 1) := zd zm_8177 (by decide +kernel)
theorem d_8177_14 {σ : Nat → Nat} {n0 : Nat} {bf : ab_B} : decode (ab_code (zx σ n0 bf).1 8177) 14 = .ok (.bipush 81, 2) := zd zm_8177 (by decide +kernel)
theorem d_8177_16 {σ : Nat → Nat} {n0 : Nat} {bf : ab_B} : decode (ab_code (zx σ n0 bf).1 8177) 16 = .ok (.iconst 0, 1) := zd zm_8177 (by decide +kernel)
theorem d_8177_17 {σ : Nat → Nat} {n0 : Nat} {bf : ab_B} : decode (ab_code (zx σ n0 bf).1 8177) 17 = .ok (.iconst 0, 1) := zd zm_8177 (by decide +kernel)
theorem d_8177_18 {σ : Nat → Nat} {n0 : Nat} {bf : ab_B} : decode (ab_code (zx σ n0 bf).1 8177) 18 = .ok (.iconst 0, 1) := zd zm_8177 (by decide +kernel)
theorem d_8177_19 {σ : Nat → Nat} {n0 : Nat} {bf : ab_B} : decode (ab_code (zx σ n0 bf).1 8177) 19 = .ok (.invokevirtual 656, 3) := zd zm_8177 (by decide +kernel)
theorem d_8177_22 {σ : Nat → Nat} {n0 : Nat} {bf : ab_B} : decode (ab_code (zx σ n0 bf).1 8177) 22 = .ok (.iconst 0, 1) := zd zm_8177 (by decide +kernel)
theorem d_8177_23 {σ : Nat → Nat} {n0 : Nat} {bf : ab_B} : decode (ab_code (zx σ n0 bf).1 8177) 23 = .ok (.iconst 0, 1) := zd zm_8177 (by decide +kernel)
theorem d_8177_24 {σ : Nat → Nat} {n0 : Nat} {bf : ab_B} : decode (ab_code (zx σ n0 bf).1 8177) 24 = .ok (.invokevirtual 649, 3) := zd zm_8177 (by decide +kernel)
theorem d_8177_27 {σ : Nat → Nat} {n0 : Nat} {bf : ab_B} : decode (ab_code (zx σ n0 bf).1 8177) 27 = .ok (.aload_n 0, 1) := zd zm_8177 (by decide +kernel)
theorem d_8177_28 {σ : Nat → Nat} {n0 : Nat} {bf : ab_B} : decode (ab_code (zx σ n0 bf).1 8177) 28 = .ok (.bipush 102, 2) := zd zm_8177 (by decide +kernel)
theorem d_8177_30 {σ : Nat → Nat} {n0 : Nat} {bf : ab_B} : decode (ab_code (zx σ n0 bf).1 8177) 30 = .ok (.iconst 0, 1) := zd zm_8177 (by decide +kernel)
theorem d_8177_31 {σ : Nat → Nat} {n0 : Nat} {bf : ab_B} : decode (ab_code (zx σ n0 bf).1 8177) 31 = .ok (.iconst 0, 1) := zd zm_8177 (by decide +kernel)
theorem d_8177_32 {σ : Nat → Nat} {n0 : Nat} {bf : ab_B} : decode (ab_code (zx σ n0 bf).1 8177) 32 = .ok (.iconst 0, 1) := zd zm_8177 (by decide +kernel)
theorem d_8177_33 {σ : Nat → Nat} {n0 : Nat} {bf : ab_B} : decode (ab_code (zx σ n0 bf).1 8177) 33 = .ok (.invokevirtual 649, 3) := zd zm_8177 (by decide +kernel)
theorem d_8177_36 {σ : Nat → Nat} {n0 : Nat} {bf : ab_B} : decode (ab_code (zx σ n0 bf).1 8177) 36 = .ok (.return_, 1) := zd zm_8177 (by decide +kernel)
def w_X9_then_27 (X : zs_X) (d : Nat) (p0 : Nat) (S : zs_T) (Q : zs_Q) : Prop :=
  (zs_K S p0 = some (.inl 8) ∧ zs_C X d 8030 [.ref p0, .int (102 : Int32), .int (0 : Int32), .int (0 : Int32), .int (0 : Int32)] S (zs_kV (fun S2 => (Q (.returned none) S2)) Q))
theorem u_X9_then_27 {σ : Nat → Nat} {n0 : Nat} {bf : ab_B} {d : Nat} {p0 : Nat} {S : zs_T} {Q : zs_Q} (hB : zt_B bf) (h : w_X9_then_27 (zx σ n0 bf) d p0 S Q) : zs_U (zx σ n0 bf) d 8177 27 [(0, .ref p0)] [] S Q := by
  unfold w_X9_then_27 at h
  refine zu_aload_n d_8177_27 rfl (zs_ra _) ?_
  refine zu_bipush d_8177_28 zj_102 ?_
  refine zu_iconst d_8177_30 zi_0 ?_
  refine zu_iconst d_8177_31 zi_0 ?_
  refine zu_iconst d_8177_32 zi_0 ?_
  obtain ⟨k1, h⟩ := h
  refine zc_8_649 (x0 := (102 : Int32)) (x1 := (0 : Int32)) (x2 := (0 : Int32)) (x3 := (0 : Int32)) hB rfl k1 d_8177_33 (Nat.le_of_ble_eq_true rfl) h (fun S2 h => ?_)
  exact zu_vret d_8177_36 zr_8177 h
def w_X9_then (X : zs_X) (d : Nat) (p0 : Nat) (S : zs_T) (Q : zs_Q) : Prop :=
  (zs_K S p0 = some (.inl 8) ∧ zs_C X d 8178 [.ref p0] S (zs_kV (fun S2 => (zs_K S2 p0 = some (.inl 8) ∧ zs_C X d 8025 [.ref p0, .int (11 : Int32)] S2 (zs_kV (fun S5 => (zs_K S5 p0 = some (.inl 8) ∧ zs_C X d 8012 [.ref p0, .int (81 : Int32), .int (0 : Int32), .int (0 : Int32), .int (0 : Int32)] S5 (zs_kI (fun v9 S8 => (zs_K S8 p0 = some (.inl 8) ∧ zs_C X d 8030 [.ref p0, .int (108 : Int32), .int v9, .int (0 : Int32), .int (0 : Int32)] S8 (zs_kV (fun S11 => w_X9_then_27 X d p0 S11 Q) Q))) Q))) Q))) Q))
theorem u_X9_then {σ : Nat → Nat} {n0 : Nat} {bf : ab_B} {d : Nat} {p0 : Nat} {S : zs_T} {Q : zs_Q} (hB : zt_B bf) (hd : 1 ≤ d) (h : w_X9_then (zx σ n0 bf) (d - 1) p0 S Q) : zs_C (zx σ n0 bf) d 8177 [.ref p0] S Q := by
  have hL : lv_args 0 [.ref p0] = [(0, .ref p0)] := rfl
  refine zs_C.of1 (hB.2 8177 (by decide) (by decide)) hd (by rw [hL]; exact zs_sub_self _ (by exact ⟨rfl, trivial⟩)) ?_
  rw [hL]
  clear hL
  unfold w_X9_then at h
  refine zu_aload_n d_8177_0 rfl (zs_ra _) ?_
  obtain ⟨k1, h⟩ := h
  refine zc_8_977  hB rfl k1 d_8177_1 (Nat.le_of_ble_eq_true rfl) h (fun S2 h => ?_)
  refine zu_aload_n d_8177_4 rfl (zs_ra _) ?_
  refine zu_bipush d_8177_5 zj_11 ?_
  obtain ⟨k4, h⟩ := h
  refine zc_8_846 (x0 := (11 : Int32)) hB rfl k4 d_8177_7 (Nat.le_of_ble_eq_true rfl) h (fun S5 h => ?_)
  refine zu_aload_n d_8177_10 rfl (zs_ra _) ?_
  refine zu_bipush d_8177_11 zj_108 ?_
  refine zu_aload_n d_8177_13 rfl (zs_ra _) ?_
  refine zu_bipush d_8177_14 zj_81 ?_
  refine zu_iconst d_8177_16 zi_0 ?_
  refine zu_iconst d_8177_17 zi_0 ?_
  refine zu_iconst d_8177_18 zi_0 ?_
  obtain ⟨k7, h⟩ := h
  refine zc_8_656 (x0 := (81 : Int32)) (x1 := (0 : Int32)) (x2 := (0 : Int32)) (x3 := (0 : Int32)) hB rfl k7 d_8177_19 (Nat.le_of_ble_eq_true rfl) h (fun v9 S8 h => ?_)
  refine zu_iconst d_8177_22 zi_0 ?_
  refine zu_iconst d_8177_23 zi_0 ?_
  obtain ⟨k10, h⟩ := h
  refine zc_8_649 (x0 := (108 : Int32)) (x1 := v9) (x2 := (0 : Int32)) (x3 := (0 : Int32)) hB rfl k10 d_8177_24 (Nat.le_of_ble_eq_true rfl) h (fun S11 h => ?_)
  exact (u_X9_then_27 hB h).weak ⟨rfl, trivial⟩
/-! SchemaPascalModel.condition()V -/
theorem zm_8178 {σ : Nat → Nat} {n0 : Nat} {bf : ab_B} : ab_code (zx σ n0 bf).1 8178 = prog_17_method_168_code := rfl
theorem zq_8178 {σ : Nat → Nat} {n0 : Nat} {bf : ab_B} : ab_maxL (zx σ n0 bf).1 8178 = 1 := rfl
theorem zr_8178 {σ : Nat → Nat} {n0 : Nat} {bf : ab_B} : ab_ret (zx σ n0 bf).1 8178 = (Option.none : Option Jvm.ClassFile.FieldType) := rfl
theorem d_8178_0 {σ : Nat → Nat} {n0 : Nat} {bf : ab_B} : decode (ab_code (zx σ n0 bf).1 8178) 0 = .ok (.aload_n 0, 1) := zd zm_8178 (by decide +kernel)
theorem d_8178_1 {σ : Nat → Nat} {n0 : Nat} {bf : ab_B} : decode (ab_code (zx σ n0 bf).1 8178) 1 = .ok (.invokevirtual 660, 3) := zd zm_8178 (by decide +kernel)
theorem d_8178_4 {σ : Nat → Nat} {n0 : Nat} {bf : ab_B} : decode (ab_code (zx σ n0 bf).1 8178) 4 = .ok (.aload_n 0, 1) := zd zm_8178 (by decide +kernel)
theorem d_8178_5 {σ : Nat → Nat} {n0 : Nat} {bf : ab_B} : decode (ab_code (zx σ n0 bf).1 8178) 5 = .ok (.getfield 444, 3) := zd zm_8178 (by decide +kernel)
theorem d_8178_8 {σ : Nat → Nat} {n0 : Nat} {bf : ab_B} : decode (ab_code (zx σ n0 bf).1 8178) 8 = .ok (.ifCond .ne 26, 3) := zd zm_8178 (by decide +kernel)
theorem d_8178_11 {σ : Nat → Nat} {n0 : Nat} {bf : ab_B} : decode (ab_code (zx σ n0 bf).1 8178) 11 = .ok (.aload_n 0, 1) := zd zm_8178 (by decide +kernel)
theorem d_8178_12 {σ : Nat → Nat} {n0 : Nat} {bf : ab_B} : decode (ab_code (zx σ n0 bf).1 8178) 12 = .ok (.aload_n 0, 1) := zd zm_8178 (by decide +kernel)
theorem d_8178_13 {σ : Nat → Nat} {n0 : Nat} {bf : ab_B} : decode (ab_code (zx σ n0 bf).1 8178) 13 = .ok (.getfield 191, 3) := zd zm_8178 (by decide +kernel)
theorem d_8178_16 {σ : Nat → Nat} {n0 : Nat} {bf : ab_B} : decode (ab_code (zx σ n0 bf).1 8178) 16 = .ok (.aload_n 0, 1) := zd zm_8178 (by decide +kernel)
theorem d_8178_17 {σ : Nat → Nat} {n0 : Nat} {bf : ab_B} : decode (ab_code (zx σ n0 bf).1 8178) 17 = .ok (.getfield 653, 3) := zd zm_8178 (by decide +kernel)
theorem d_8178_20 {σ : Nat → Nat} {n0 : Nat} {bf : ab_B} : decode (ab_code (zx σ n0 bf).1 8178) 20 = .ok (.iconst 1, 1) := zd zm_8178 (by decide +kernel)
theorem d_8178_21 {σ : Nat → Nat} {n0 : Nat} {bf : ab_B} : decode (ab_code (zx σ n0 bf).1 8178) 21 = .ok (.isub, 1) := zd zm_8178 (by decide +kernel)
theorem d_8178_22 {σ : Nat → Nat} {n0 : Nat} {bf : ab_B} : decode (ab_code (zx σ n0 bf).1 8178) 22 = .ok (.iaload, 1) := zd zm_8178 (by decide +kernel)
theorem d_8178_23 {σ : Nat → Nat} {n0 : Nat} {bf : ab_B} : decode (ab_code (zx σ n0 bf).1 8178) 23 = .ok (.invokevirtual 696, 3) := zd zm_8178 (by decide +kernel)
theorem d_8178_26 {σ : Nat → Nat} {n0 : Nat} {bf : ab_B} : decode (ab_code (zx σ n0 bf).1 8178) 26 = .ok (.ifCond .ne 8, 3) := zd zm_8178 (by decide +kernel)
theorem d_8178_29 {σ : Nat → Nat} {n0 : Nat} {bf : ab_B} : decode (ab_code (zx σ n0 bf).1 8178) 29 = .ok (.aload_n 0, 1) := zd zm_8178 (by decide +kernel)
theorem d_8178_30 {σ : Nat → Nat} {n0 : Nat} {bf : ab_B} : decode (ab_code (zx σ n0 bf).1 8178) 30 = .ok (.iconst 5, 1) := zd zm_8178 (by decide +kernel)
theorem d_8178_31 {σ : Nat → Nat} {n0 : Nat} {bf : ab_B} : decode (ab_code (zx σ n0 bf).1 8178) 31 = .ok (.invokevirtual 541, 3) := zd zm_8178 (by decide +kernel)
theorem d_8178_34 {σ : Nat → Nat} {n0 : Nat} {bf : ab_B} : decode (ab_code (zx σ n0 bf).1 8178) 34 = .ok (.aload_n 0, 1) := zd zm_8178 (by decide +kernel)
theorem d_8178_35 {σ : Nat → Nat} {n0 : Nat} {bf : ab_B} : decode (ab_code (zx σ n0 bf).1 8178) 35 = .ok (.dup, 1) := zd zm_8178 (by decide +kernel)
theorem d_8178_36 {σ : Nat → Nat} {n0 : Nat} {bf : ab_B} : decode (ab_code (zx σ n0 bf).1 8178) 36 = .ok (.getfield 653, 3) := zd zm_8178 (by decide +kernel)
theorem d_8178_39 {σ : Nat → Nat} {n0 : Nat} {bf : ab_B} : decode (ab_code (zx σ n0 bf).1 8178) 39 = .ok (.iconst 1, 1) := zd zm_8178 (by decide +kernel)
theorem d_8178_40 {σ : Nat → Nat} {n0 : Nat} {bf : ab_B} : decode (ab_code (zx σ n0 bf).1 8178) 40 = .ok (.isub, 1) := zd zm_8178 (by decide +kernel)
theorem d_8178_41 {σ : Nat → Nat} {n0 : Nat} {bf : ab_B} : decode (ab_code (zx σ n0 bf).1 8178) 41 = .ok (.putfield 653, 3) := zd zm_8178 (by decide +kernel)
theorem d_8178_44 {σ : Nat → Nat} {n0 : Nat} {bf : ab_B} : decode (ab_code (zx σ n0 bf).1 8178) 44 = .ok (.return_, 1) := zd zm_8178 (by decide +kernel)
def w_X9_condition_34 (X : zs_X) (d : Nat) (p0 : Nat) (S : zs_T) (Q : zs_Q) : Prop :=
  (zs_K S p0 = some (.inl 8) ∧ ab_n0 X.1 ≤ p0 ∧ ∀ S3, S3 = zs_sI S 8097 p0 ((zs_I S 8097 p0) - (1 : Int32)) → Q (.returned none) S3)
theorem u_X9_condition_34 {σ : Nat → Nat} {n0 : Nat} {bf : ab_B} {d : Nat} {p0 : Nat} {S : zs_T} {Q : zs_Q} (hB : zt_B bf) (h : w_X9_condition_34 (zx σ n0 bf) d p0 S Q) : zs_U (zx σ n0 bf) d 8178 34 [(0, .ref p0)] [] S Q := by
  unfold w_X9_condition_34 at h
  refine zu_aload_n d_8178_34 rfl (zs_ra _) ?_
  refine zu_dup d_8178_35 rfl ?_
  obtain ⟨k1, h⟩ := h
  refine zg_8_653 rfl d_8178_36 k1 ?_
  refine zu_iconst d_8178_39 zi_1 ?_
  refine zu_stk d_8178_40 rfl rfl ?_
  obtain ⟨k2, h⟩ := h
  refine zp_8_653 (v := ((zs_I S 8097 p0) - (1 : Int32))) rfl d_8178_41 k1 k2 ?_
  generalize e4 : zs_sI S 8097 p0 ((zs_I S 8097 p0) - (1 : Int32)) = S3
  have h := h S3 e4.symm
  have K5 : ∀ b, zs_K S3 b = zs_K S b := zs_Kt e4 (zs_KsI _ _ _ _) (fun _ => rfl)
  exact zu_vret d_8178_44 zr_8178 h
def w_X9_condition (X : zs_X) (d : Nat) (p0 : Nat) (S : zs_T) (Q : zs_Q) : Prop :=
  (zs_K S p0 = some (.inl 8) ∧ zs_C X d 8037 [.ref p0] S (zs_kV (fun S2 => (zs_K S2 p0 = some (.inl 8) ∧ ((¬ (zs_I S2 8010 p0) = 0 → w_X9_condition_34 X d p0 S2 Q) ∧ (¬ (¬ (zs_I S2 8010 p0) = 0) → (∃ b6, (zs_R S2 8091 p0) = some b6 ∧ zs_A S2 b6 0 ((zs_I S2 8097 p0) - (1 : Int32)) ∧ zs_C X d 8054 [.ref p0, .int (zs_i S2 b6 ((zs_I S2 8097 p0) - (1 : Int32)).toNatClampNeg)] S2 (zs_kI (fun v10 S9 => (((¬ v10 = 0 → w_X9_condition_34 X d p0 S9 Q) ∧ (¬ (¬ v10 = 0) → (zs_K S9 p0 = some (.inl 8) ∧ zs_C X d 8027 [.ref p0, .int (5 : Int32)] S9 (zs_kV (fun S13 => w_X9_condition_34 X d p0 S13 Q) Q)))))) Q)))))) Q))
theorem u_X9_condition {σ : Nat → Nat} {n0 : Nat} {bf : ab_B} {d : Nat} {p0 : Nat} {S : zs_T} {Q : zs_Q} (hB : zt_B bf) (hd : 1 ≤ d) (h : w_X9_condition (zx σ n0 bf) (d - 1) p0 S Q) : zs_C (zx σ n0 bf) d 8178 [.ref p0] S Q := by
  have hL : lv_args 0 [.ref p0] = [(0, .ref p0)] := rfl
  refine zs_C.of1 (hB.2 8178 (by decide) (by decide)) hd (by rw [hL]; exact zs_sub_self _ (by exact ⟨rfl, trivial⟩)) ?_
  rw [hL]
  clear hL
  unfold w_X9_condition at h
  refine zu_aload_n d_8178_0 rfl (zs_ra _) ?_
  obtain ⟨k1, h⟩ := h
  refine zc_8_660  hB rfl k1 d_8178_1 (Nat.le_of_ble_eq_true rfl) h (fun S2 h => ?_)
  refine zu_aload_n d_8178_4 rfl (zs_ra _) ?_
  obtain ⟨k4, h⟩ := h
  refine zg_8_444 rfl d_8178_5 k4 ?_
  refine zu_ifne (t := 34) d_8178_8 rfl (fun c5 => ?_) (fun c5 => ?_)
  · have h := h.1 c5
    exact (u_X9_condition_34 hB h).weak ⟨rfl, trivial⟩
  · have h := h.2 c5
    refine zu_aload_n d_8178_11 rfl (zs_ra _) ?_
    refine zu_aload_n d_8178_12 rfl (zs_ra _) ?_
    refine zg_8_191 rfl d_8178_13 k4 ?_
    refine zu_aload_n d_8178_16 rfl (zs_ra _) ?_
    refine zg_8_653 rfl d_8178_17 k4 ?_
    refine zu_iconst d_8178_20 zi_1 ?_
    refine zu_stk d_8178_21 rfl rfl ?_
    obtain ⟨b6, e7, h⟩ := h
    refine zs_stk1 (zs_rfe e7) ?_
    obtain ⟨k8, h⟩ := h
    refine zu_iald (k := 0) d_8178_22 rfl rfl k8 ?_
    refine zc_8_696 (x0 := (zs_i S2 b6 ((zs_I S2 8097 p0) - (1 : Int32)).toNatClampNeg)) hB rfl k4 d_8178_23 (Nat.le_of_ble_eq_true rfl) h (fun v10 S9 h => ?_)
    refine zu_ifne (t := 34) d_8178_26 rfl (fun c11 => ?_) (fun c11 => ?_)
    · have h := h.1 c11
      exact (u_X9_condition_34 hB h).weak ⟨rfl, trivial⟩
    · have h := h.2 c11
      refine zu_aload_n d_8178_29 rfl (zs_ra _) ?_
      refine zu_iconst d_8178_30 zi_5 ?_
      obtain ⟨k12, h⟩ := h
      refine zc_8_541 (x0 := (5 : Int32)) hB rfl k12 d_8178_31 (Nat.le_of_ble_eq_true rfl) h (fun S13 h => ?_)
      exact (u_X9_condition_34 hB h).weak ⟨rfl, trivial⟩
/-! SchemaPascalModel.elses(I)V -/
theorem zm_8179 {σ : Nat → Nat} {n0 : Nat} {bf : ab_B} : ab_code (zx σ n0 bf).1 8179 = prog_17_method_170_code := rfl
theorem zq_8179 {σ : Nat → Nat} {n0 : Nat} {bf : ab_B} : ab_maxL (zx σ n0 bf).1 8179 = 2 := rfl
theorem zr_8179 {σ : Nat → Nat} {n0 : Nat} {bf : ab_B} : ab_ret (zx σ n0 bf).1 8179 = (Option.none : Option Jvm.ClassFile.FieldType) := rfl
theorem d_8179_0 {σ : Nat → Nat} {n0 : Nat} {bf : ab_B} : decode (ab_code (zx σ n0 bf).1 8179) 0 = .ok (.aload_n 0, 1) := zd zm_8179 (by decide +kernel)
theorem d_8179_1 {σ : Nat → Nat} {n0 : Nat} {bf : ab_B} : decode (ab_code (zx σ n0 bf).1 8179) 1 = .ok (.bipush 12, 2) := zd zm_8179 (by decide +kernel)
theorem d_8179_3 {σ : Nat → Nat} {n0 : Nat} {bf : ab_B} : decode (ab_code (zx σ n0 bf).1 8179) 3 = .ok (.invokevirtual 544, 3) := zd zm_8179 (by decide +kernel)
theorem d_8179_6 {σ : Nat → Nat} {n0 : Nat} {bf : ab_B} : decode (ab_code (zx σ n0 bf).1 8179) 6 = .ok (.ifCond .eq 46, 3) := zd zm_8179 (by decide +kernel)
theorem d_8179_9 {σ : Nat → Nat} {n0 : Nat} {bf : ab_B} : decode (ab_code (zx σ n0 bf).1 8179) 9 = .ok (.aload_n 0, 1) := zd zm_8179 (by decide +kernel)
theorem d_8179_10 {σ : Nat → Nat} {n0 : Nat} {bf : ab_B} : decode (ab_code (zx σ n0 bf).1 8179) 10 = .ok (.invokevirtual 538, 3) := zd zm_8179 (by decide +kernel)
theorem d_8179_13 {σ : Nat → Nat} {n0 : Nat} {bf : ab_B} : decode (ab_code (zx σ n0 bf).1 8179) 13 = .ok (.aload_n 0, 1) := zd zm_8179 (by decide +kernel)
theorem d_8179_14 {σ : Nat → Nat} {n0 : Nat} {bf : ab_B} : decode (ab_code (zx σ n0 bf).1 8179) 14 = .ok (.bipush 109, 2) := zd zm_8179 (by decide +kernel)
theorem d_8179_16 {σ : Nat → Nat} {n0 : Nat} {bf : ab_B} : decode (ab_code (zx σ n0 bf).1 8179) 16 = .ok (.aload_n 0, 1) := zd zm_8179 (by decide +kernel)
theorem d_8179_17 {σ : Nat → Nat} {n0 : Nat} {bf : ab_B} : decode (ab_code (zx σ n0 bf).1 8179) 17 = .ok (.bipush 80, 2) := zd zm_8179 (by decide +kernel)
theorem d_8179_19 {σ : Nat → Nat} {n0 : Nat} {bf : ab_B} : decode (ab_code (zx σ n0 bf).1 8179) 19 = .ok (.iconst 0, 1) := zd zm_8179 (by decide +kernel)
theorem d_8179_20 {σ : Nat → Nat} {n0 : Nat} {bf : ab_B} : decode (ab_code (zx σ n0 bf).1 8179) 20 = .ok (.iconst 0, 1) := zd zm_8179 (by decide +kernel)
theorem d_8179_21 {σ : Nat → Nat} {n0 : Nat} {bf : ab_B} : decode (ab_code (zx σ n0 bf).1 8179) 21 = .ok (.iconst 0, 1) := zd zm_8179 (by decide +kernel)
theorem d_8179_22 {σ : Nat → Nat} {n0 : Nat} {bf : ab_B} : decode (ab_code (zx σ n0 bf).1 8179) 22 = .ok (.invokevirtual 656, 3) := zd zm_8179 (by decide +kernel)
theorem d_8179_25 {σ : Nat → Nat} {n0 : Nat} {bf : ab_B} : decode (ab_code (zx σ n0 bf).1 8179) 25 = .ok (.iconst 0, 1) := zd zm_8179 (by decide +kernel)
theorem d_8179_26 {σ : Nat → Nat} {n0 : Nat} {bf : ab_B} : decode (ab_code (zx σ n0 bf).1 8179) 26 = .ok (.iconst 0, 1) := zd zm_8179 (by decide +kernel)
theorem d_8179_27 {σ : Nat → Nat} {n0 : Nat} {bf : ab_B} : decode (ab_code (zx σ n0 bf).1 8179) 27 = .ok (.invokevirtual 649, 3) := zd zm_8179 (by decide +kernel)
theorem d_8179_30 {σ : Nat → Nat} {n0 : Nat} {bf : ab_B} : decode (ab_code (zx σ n0 bf).1 8179) 30 = .ok (.aload_n 0, 1) := zd zm_8179 (by decide +kernel)
theorem d_8179_31 {σ : Nat → Nat} {n0 : Nat} {bf : ab_B} : decode (ab_code (zx σ n0 bf).1 8179) 31 = .ok (.getfield 75, 3) := zd zm_8179 (by decide +kernel)
theorem d_8179_34 {σ : Nat → Nat} {n0 : Nat} {bf : ab_B} : decode (ab_code (zx σ n0 bf).1 8179) 34 = .ok (.iload_n 1, 1) := zd zm_8179 (by decide +kernel)
theorem d_8179_35 {σ : Nat → Nat} {n0 : Nat} {bf : ab_B} : decode (ab_code (zx σ n0 bf).1 8179) 35 = .ok (.aload_n 0, 1) := zd zm_8179 (by decide +kernel)
theorem d_8179_36 {σ : Nat → Nat} {n0 : Nat} {bf : ab_B} : decode (ab_code (zx σ n0 bf).1 8179) 36 = .ok (.getfield 556, 3) := zd zm_8179 (by decide +kernel)
theorem d_8179_39 {σ : Nat → Nat} {n0 : Nat} {bf : ab_B} : decode (ab_code (zx σ n0 bf).1 8179) 39 = .ok (.iastore, 1) := zd zm_8179 (by decide +kernel)
theorem d_8179_40 {σ : Nat → Nat} {n0 : Nat} {bf : ab_B} : decode (ab_code (zx σ n0 bf).1 8179) 40 = .ok (.aload_n 0, 1) := zd zm_8179 (by decide +kernel)
theorem d_8179_41 {σ : Nat → Nat} {n0 : Nat} {bf : ab_B} : decode (ab_code (zx σ n0 bf).1 8179) 41 = .ok (.bipush 102, 2) := zd zm_8179 (by decide +kernel)
theorem d_8179_43 {σ : Nat → Nat} {n0 : Nat} {bf : ab_B} : decode (ab_code (zx σ n0 bf).1 8179) 43 = .ok (.iconst 0, 1) := zd zm_8179 (by decide +kernel)
theorem d_8179_44 {σ : Nat → Nat} {n0 : Nat} {bf : ab_B} : decode (ab_code (zx σ n0 bf).1 8179) 44 = .ok (.iconst 0, 1) := zd zm_8179 (by decide +kernel)
theorem d_8179_45 {σ : Nat → Nat} {n0 : Nat} {bf : ab_B} : decode (ab_code (zx σ n0 bf).1 8179) 45 = .ok (.iconst 0, 1) := zd zm_8179 (by decide +kernel)
theorem d_8179_46 {σ : Nat → Nat} {n0 : Nat} {bf : ab_B} : decode (ab_code (zx σ n0 bf).1 8179) 46 = .ok (.invokevirtual 649, 3) := zd zm_8179 (by decide +kernel)
theorem d_8179_49 {σ : Nat → Nat} {n0 : Nat} {bf : ab_B} : decode (ab_code (zx σ n0 bf).1 8179) 49 = .ok (.goto 13, 3) := zd zm_8179 (by decide +kernel)
theorem d_8179_52 {σ : Nat → Nat} {n0 : Nat} {bf : ab_B} : decode (ab_code (zx σ n0 bf).1 8179) 52 = .ok (.aload_n 0, 1) := zd zm_8179 (by decide +kernel)
theorem d_8179_53 {σ : Nat → Nat} {n0 : Nat} {bf : ab_B} : decode (ab_code (zx σ n0 bf).1 8179) 53 = .ok (.getfield 75, 3) := zd zm_8179 (by decide +kernel)
theorem d_8179_56 {σ : Nat → Nat} {n0 : Nat} {bf : ab_B} : decode (ab_code (zx σ n0 bf).1 8179) 56 = .ok (.iload_n 1, 1) := zd zm_8179 (by decide +kernel)
theorem d_8179_57 {σ : Nat → Nat} {n0 : Nat} {bf : ab_B} : decode (ab_code (zx σ n0 bf).1 8179) 57 = .ok (.aload_n 0, 1) := zd zm_8179 (by decide +kernel)
theorem d_8179_58 {σ : Nat → Nat} {n0 : Nat} {bf : ab_B} : decode (ab_code (zx σ n0 bf).1 8179) 58 = .ok (.getfield 556, 3) := zd zm_8179 (by decide +kernel)
theorem d_8179_61 {σ : Nat → Nat} {n0 : Nat} {bf : ab_B} : decode (ab_code (zx σ n0 bf).1 8179) 61 = .ok (.iastore, 1) := zd zm_8179 (by decide +kernel)
theorem d_8179_62 {σ : Nat → Nat} {n0 : Nat} {bf : ab_B} : decode (ab_code (zx σ n0 bf).1 8179) 62 = .ok (.return_, 1) := zd zm_8179 (by decide +kernel)
def w_X9_elses_30 (X : zs_X) (d : Nat) (p0 : Nat) (p1 : Int32) (S : zs_T) (Q : zs_Q) : Prop :=
  (zs_K S p0 = some (.inl 8) ∧ ∃ b2, (zs_R S 8037 p0) = some b2 ∧ zs_A S b2 0 p1 ∧ ab_n0 X.1 ≤ b2 ∧ ∀ S6, S6 = zs_si S b2 p1.toNatClampNeg (zs_I S 8040 p0) → zs_C X d 8030 [.ref p0, .int (102 : Int32), .int (0 : Int32), .int (0 : Int32), .int (0 : Int32)] S6 (zs_kV (fun S9 => (Q (.returned none) S9)) Q))
theorem u_X9_elses_30 {σ : Nat → Nat} {n0 : Nat} {bf : ab_B} {d : Nat} {p0 : Nat} {p1 : Int32} {S : zs_T} {Q : zs_Q} (hB : zt_B bf) (h : w_X9_elses_30 (zx σ n0 bf) d p0 p1 S Q) : zs_U (zx σ n0 bf) d 8179 30 [(0, .ref p0), (1, .int p1)] [] S Q := by
  unfold w_X9_elses_30 at h
  refine zu_aload_n d_8179_30 rfl (zs_ra _) ?_
  obtain ⟨k1, h⟩ := h
  refine zg_8_75 rfl d_8179_31 k1 ?_
  refine zu_iload_n d_8179_34 rfl ?_
  refine zu_aload_n d_8179_35 rfl (zs_ra _) ?_
  refine zg_8_556 rfl d_8179_36 k1 ?_
  obtain ⟨b2, e3, h⟩ := h
  refine zs_stk2 (zs_rfe e3) ?_
  obtain ⟨k4, h⟩ := h
  obtain ⟨k5, h⟩ := h
  refine zu_iast (k := 0) d_8179_39 rfl rfl k5 k4 ?_
  generalize e7 : zs_si S b2 p1.toNatClampNeg (zs_I S 8040 p0) = S6
  have h := h S6 e7.symm
  have K8 : ∀ b, zs_K S6 b = zs_K S b := zs_Kt e7 (zs_Ksi _ _ _ _) (fun _ => rfl)
  refine zu_aload_n d_8179_40 rfl (zs_ra _) ?_
  refine zu_bipush d_8179_41 zj_102 ?_
  refine zu_iconst d_8179_43 zi_0 ?_
  refine zu_iconst d_8179_44 zi_0 ?_
  refine zu_iconst d_8179_45 zi_0 ?_
  refine zc_8_649 (x0 := (102 : Int32)) (x1 := (0 : Int32)) (x2 := (0 : Int32)) (x3 := (0 : Int32)) hB rfl ((K8 _).trans k1) d_8179_46 (Nat.le_of_ble_eq_true rfl) h (fun S9 h => ?_)
  refine zu_goto (t := 62) d_8179_49 rfl ?_
  exact zu_vret d_8179_62 zr_8179 h
def w_X9_elses (X : zs_X) (d : Nat) (p0 : Nat) (p1 : Int32) (S : zs_T) (Q : zs_Q) : Prop :=
  (zs_K S p0 = some (.inl 8) ∧ zs_C X d 8026 [.ref p0, .int (12 : Int32)] S (zs_kI (fun v3 S2 => (((v3 = 0 → (zs_K S2 p0 = some (.inl 8) ∧ ∃ b6, (zs_R S2 8037 p0) = some b6 ∧ zs_A S2 b6 0 p1 ∧ ab_n0 X.1 ≤ b6 ∧ ∀ S10, S10 = zs_si S2 b6 p1.toNatClampNeg (zs_I S2 8040 p0) → Q (.returned none) S10)) ∧ (¬ (v3 = 0) → (zs_K S2 p0 = some (.inl 8) ∧ zs_C X d 8014 [.ref p0] S2 (zs_kV (fun S14 => (zs_K S14 p0 = some (.inl 8) ∧ zs_C X d 8012 [.ref p0, .int (80 : Int32), .int (0 : Int32), .int (0 : Int32), .int (0 : Int32)] S14 (zs_kI (fun v18 S17 => (zs_K S17 p0 = some (.inl 8) ∧ zs_C X d 8030 [.ref p0, .int (109 : Int32), .int v18, .int (0 : Int32), .int (0 : Int32)] S17 (zs_kV (fun S20 => w_X9_elses_30 X d p0 p1 S20 Q) Q))) Q))) Q)))))) Q))
theorem u_X9_elses {σ : Nat → Nat} {n0 : Nat} {bf : ab_B} {d : Nat} {p0 : Nat} {p1 : Int32} {S : zs_T} {Q : zs_Q} (hB : zt_B bf) (hd : 1 ≤ d) (h : w_X9_elses (zx σ n0 bf) (d - 1) p0 p1 S Q) : zs_C (zx σ n0 bf) d 8179 [.ref p0, .int p1] S Q := by
  have hL : lv_args 0 [.ref p0, .int p1] = [(0, .ref p0), (1, .int p1)] := rfl
  refine zs_C.of1 (hB.2 8179 (by decide) (by decide)) hd (by rw [hL]; exact zs_sub_self _ (by exact ⟨rfl, rfl, trivial⟩)) ?_
  rw [hL]
  clear hL
  unfold w_X9_elses at h
  refine zu_aload_n d_8179_0 rfl (zs_ra _) ?_
  refine zu_bipush d_8179_1 zj_12 ?_
  obtain ⟨k1, h⟩ := h
  refine zc_8_544 (x0 := (12 : Int32)) hB rfl k1 d_8179_3 (Nat.le_of_ble_eq_true rfl) h (fun v3 S2 h => ?_)
  refine zu_ifeq (t := 52) d_8179_6 rfl (fun c4 => ?_) (fun c4 => ?_)
  · have h := h.1 c4
    refine zu_aload_n d_8179_52 rfl (zs_ra _) ?_
    obtain ⟨k5, h⟩ := h
    refine zg_8_75 rfl d_8179_53 k5 ?_
    refine zu_iload_n d_8179_56 rfl ?_
    refine zu_aload_n d_8179_57 rfl (zs_ra _) ?_
    refine zg_8_556 rfl d_8179_58 k5 ?_
    obtain ⟨b6, e7, h⟩ := h
    refine zs_stk2 (zs_rfe e7) ?_
    obtain ⟨k8, h⟩ := h
    obtain ⟨k9, h⟩ := h
    refine zu_iast (k := 0) d_8179_61 rfl rfl k9 k8 ?_
    generalize e11 : zs_si S2 b6 p1.toNatClampNeg (zs_I S2 8040 p0) = S10
    have h := h S10 e11.symm
    have K12 : ∀ b, zs_K S10 b = zs_K S2 b := zs_Kt e11 (zs_Ksi _ _ _ _) (fun _ => rfl)
    exact zu_vret d_8179_62 zr_8179 h
  · have h := h.2 c4
    refine zu_aload_n d_8179_9 rfl (zs_ra _) ?_
    obtain ⟨k13, h⟩ := h
    refine zc_8_538  hB rfl k13 d_8179_10 (Nat.le_of_ble_eq_true rfl) h (fun S14 h => ?_)
    refine zu_aload_n d_8179_13 rfl (zs_ra _) ?_
    refine zu_bipush d_8179_14 zj_109 ?_
    refine zu_aload_n d_8179_16 rfl (zs_ra _) ?_
    refine zu_bipush d_8179_17 zj_80 ?_
    refine zu_iconst d_8179_19 zi_0 ?_
    refine zu_iconst d_8179_20 zi_0 ?_
    refine zu_iconst d_8179_21 zi_0 ?_
    obtain ⟨k16, h⟩ := h
    refine zc_8_656 (x0 := (80 : Int32)) (x1 := (0 : Int32)) (x2 := (0 : Int32)) (x3 := (0 : Int32)) hB rfl k16 d_8179_22 (Nat.le_of_ble_eq_true rfl) h (fun v18 S17 h => ?_)
    refine zu_iconst d_8179_25 zi_0 ?_
    refine zu_iconst d_8179_26 zi_0 ?_
    obtain ⟨k19, h⟩ := h
    refine zc_8_649 (x0 := (109 : Int32)) (x1 := v18) (x2 := (0 : Int32)) (x3 := (0 : Int32)) hB rfl k19 d_8179_27 (Nat.le_of_ble_eq_true rfl) h (fun S20 h => ?_)
    exact (u_X9_elses_30 hB h).weak ⟨rfl, rfl, trivial⟩
/-! SchemaPascalModel.whileDo(II)V -/
theorem zm_8180 {σ : Nat → Nat} {n0 : Nat} {bf : ab_B} : ab_code (zx σ n0 bf).1 8180 = prog_17_method_171_code := rfl
theorem zq_8180 {σ : Nat → Nat} {n0 : Nat} {bf : ab_B} : ab_maxL (zx σ n0 bf).1 8180 = 4 := rfl
theorem zr_8180 {σ : Nat → Nat} {n0 : Nat} {bf : ab_B} : ab_ret (zx σ n0 bf).1 8180 = (Option.none : Option Jvm.ClassFile.FieldType) := rfl
theorem d_8180_0 {σ : Nat → Nat} {n0 : Nat} {bf : ab_B} : decode (ab_code (zx σ n0 bf).1 8180) 0 = .ok (.aload_n 0, 1) := zd zm_8180 (by decide +kernel)
theorem d_8180_1 {σ : Nat → Nat} {n0 : Nat} {bf : ab_B} : decode (ab_code (zx σ n0 bf).1 8180) 1 = .ok (.invokevirtual 977, 3) := zd zm_8180 (by decide +kernel)
theorem d_8180_4 {σ : Nat → Nat} {n0 : Nat} {bf : ab_B} : decode (ab_code (zx σ n0 bf).1 8180) 4 = .ok (.aload_n 0, 1) := zd zm_8180 (by decide +kernel)
theorem d_8180_5 {σ : Nat → Nat} {n0 : Nat} {bf : ab_B} : decode (ab_code (zx σ n0 bf).1 8180) 5 = .ok (.bipush 14, 2) := zd zm_8180 (by decide +kernel)
theorem d_8180_7 {σ : Nat → Nat} {n0 : Nat} {bf : ab_B} : decode (ab_code (zx σ n0 bf).1 8180) 7 = .ok (.invokevirtual 846, 3) := zd zm_8180 (by decide +kernel)
theorem d_8180_10 {σ : Nat → Nat} {n0 : Nat} {bf : ab_B} : decode (ab_code (zx σ n0 bf).1 8180) 10 = .ok (.aload_n 0, 1) := zd zm_8180 (by decide +kernel)
theorem d_8180_11 {σ : Nat → Nat} {n0 : Nat} {bf : ab_B} : decode (ab_code (zx σ n0 bf).1 8180) 11 = .ok (.bipush 81, 2) := zd zm_8180 (by decide +kernel)
theorem d_8180_13 {σ : Nat → Nat} {n0 : Nat} {bf : ab_B} : decode (ab_code (zx σ n0 bf).1 8180) 13 = .ok (.iconst 0, 1) := zd zm_8180 (by decide +kernel)
theorem d_8180_14 {σ : Nat → Nat} {n0 : Nat} {bf : ab_B} : decode (ab_code (zx σ n0 bf).1 8180) 14 = .ok (.iconst 0, 1) := zd zm_8180 (by decide +kernel)
theorem d_8180_15 {σ : Nat → Nat} {n0 : Nat} {bf : ab_B} : decode (ab_code (zx σ n0 bf).1 8180) 15 = .ok (.iconst 0, 1) := zd zm_8180 (by decide +kernel)
theorem d_8180_16 {σ : Nat → Nat} {n0 : Nat} {bf : ab_B} : decode (ab_code (zx σ n0 bf).1 8180) 16 = .ok (.invokevirtual 656, 3) := zd zm_8180 (by decide +kernel)
theorem d_8180_19 {σ : Nat → Nat} {n0 : Nat} {bf : ab_B} : decode (ab_code (zx σ n0 bf).1 8180) 19 = .ok (.istore_n 3, 1) := zd zm_8180 (by decide +kernel)
theorem d_8180_20 {σ : Nat → Nat} {n0 : Nat} {bf : ab_B} : decode (ab_code (zx σ n0 bf).1 8180) 20 = .ok (.aload_n 0, 1) := zd zm_8180 (by decide +kernel)
theorem d_8180_21 {σ : Nat → Nat} {n0 : Nat} {bf : ab_B} : decode (ab_code (zx σ n0 bf).1 8180) 21 = .ok (.iload_n 2, 1) := zd zm_8180 (by decide +kernel)
theorem d_8180_22 {σ : Nat → Nat} {n0 : Nat} {bf : ab_B} : decode (ab_code (zx σ n0 bf).1 8180) 22 = .ok (.invokevirtual 959, 3) := zd zm_8180 (by decide +kernel)
theorem d_8180_25 {σ : Nat → Nat} {n0 : Nat} {bf : ab_B} : decode (ab_code (zx σ n0 bf).1 8180) 25 = .ok (.aload_n 0, 1) := zd zm_8180 (by decide +kernel)
theorem d_8180_26 {σ : Nat → Nat} {n0 : Nat} {bf : ab_B} : decode (ab_code (zx σ n0 bf).1 8180) 26 = .ok (.bipush 111, 2) := zd zm_8180 (by decide +kernel)
theorem d_8180_28 {σ : Nat → Nat} {n0 : Nat} {bf : ab_B} : decode (ab_code (zx σ n0 bf).1 8180) 28 = .ok (.iload_n 1, 1) := zd zm_8180 (by decide +kernel)
theorem d_8180_29 {σ : Nat → Nat} {n0 : Nat} {bf : ab_B} : decode (ab_code (zx σ n0 bf).1 8180) 29 = .ok (.iload_n 3, 1) := zd zm_8180 (by decide +kernel)
theorem d_8180_30 {σ : Nat → Nat} {n0 : Nat} {bf : ab_B} : decode (ab_code (zx σ n0 bf).1 8180) 30 = .ok (.iconst 0, 1) := zd zm_8180 (by decide +kernel)
theorem d_8180_31 {σ : Nat → Nat} {n0 : Nat} {bf : ab_B} : decode (ab_code (zx σ n0 bf).1 8180) 31 = .ok (.invokevirtual 649, 3) := zd zm_8180 (by decide +kernel)
theorem d_8180_34 {σ : Nat → Nat} {n0 : Nat} {bf : ab_B} : decode (ab_code (zx σ n0 bf).1 8180) 34 = .ok (.aload_n 0, 1) := zd zm_8180 (by decide +kernel)
theorem d_8180_35 {σ : Nat → Nat} {n0 : Nat} {bf : ab_B} : decode (ab_code (zx σ n0 bf).1 8180) 35 = .ok (.bipush 102, 2) := zd zm_8180 (by decide +kernel)
theorem d_8180_37 {σ : Nat → Nat} {n0 : Nat} {bf : ab_B} : decode (ab_code (zx σ n0 bf).1 8180) 37 = .ok (.iconst 0, 1) := zd zm_8180 (by decide +kernel)
theorem d_8180_38 {σ : Nat → Nat} {n0 : Nat} {bf : ab_B} : decode (ab_code (zx σ n0 bf).1 8180) 38 = .ok (.iconst 0, 1) := zd zm_8180 (by decide +kernel)
theorem d_8180_39 {σ : Nat → Nat} {n0 : Nat} {bf : ab_B} : decode (ab_code (zx σ n0 bf).1 8180) 39 = .ok (.iconst 0, 1) := zd zm_8180 (by decide +kernel)
theorem d_8180_40 {σ : Nat → Nat} {n0 : Nat} {bf : ab_B} : decode (ab_code (zx σ n0 bf).1 8180) 40 = .ok (.invokevirtual 649, 3) := zd zm_8180 (by decide +kernel)
theorem d_8180_43 {σ : Nat → Nat} {n0 : Nat} {bf : ab_B} : decode (ab_code (zx σ n0 bf).1 8180) 43 = .ok (.return_, 1) := zd zm_8180 (by decide +kernel)
def w_X9_whileDo_34 (X : zs_X) (d : Nat) (p0 : Nat) (S : zs_T) (Q : zs_Q) : Prop :=
  (zs_K S p0 = some (.inl 8) ∧ zs_C X d 8030 [.ref p0, .int (102 : Int32), .int (0 : Int32), .int (0 : Int32), .int (0 : Int32)] S (zs_kV (fun S2 => (Q (.returned none) S2)) Q))
theorem u_X9_whileDo_34 {σ : Nat → Nat} {n0 : Nat} {bf : ab_B} {d : Nat} {p0 : Nat} {S : zs_T} {Q : zs_Q} (hB : zt_B bf) (h : w_X9_whileDo_34 (zx σ n0 bf) d p0 S Q) : zs_U (zx σ n0 bf) d 8180 34 [(0, .ref p0)] [] S Q := by
  unfold w_X9_whileDo_34 at h
  refine zu_aload_n d_8180_34 rfl (zs_ra _) ?_
  refine zu_bipush d_8180_35 zj_102 ?_
  refine zu_iconst d_8180_37 zi_0 ?_
  refine zu_iconst d_8180_38 zi_0 ?_
  refine zu_iconst d_8180_39 zi_0 ?_
  obtain ⟨k1, h⟩ := h
  refine zc_8_649 (x0 := (102 : Int32)) (x1 := (0 : Int32)) (x2 := (0 : Int32)) (x3 := (0 : Int32)) hB rfl k1 d_8180_40 (Nat.le_of_ble_eq_true rfl) h (fun S2 h => ?_)
  exact zu_vret d_8180_43 zr_8180 h
def w_X9_whileDo (X : zs_X) (d : Nat) (p0 : Nat) (p1 : Int32) (p2 : Int32) (S : zs_T) (Q : zs_Q) : Prop :=
  (zs_K S p0 = some (.inl 8) ∧ zs_C X d 8178 [.ref p0] S (zs_kV (fun S2 => (zs_K S2 p0 = some (.inl 8) ∧ zs_C X d 8025 [.ref p0, .int (14 : Int32)] S2 (zs_kV (fun S5 => (zs_K S5 p0 = some (.inl 8) ∧ zs_C X d 8012 [.ref p0, .int (81 : Int32), .int (0 : Int32), .int (0 : Int32), .int (0 : Int32)] S5 (zs_kI (fun v9 S8 => (zs_K S8 p0 = some (.inl 8) ∧ zs_C X d 8168 [.ref p0, .int p2] S8 (zs_kV (fun S11 => (zs_K S11 p0 = some (.inl 8) ∧ zs_C X d 8030 [.ref p0, .int (111 : Int32), .int p1, .int v9, .int (0 : Int32)] S11 (zs_kV (fun S14 => w_X9_whileDo_34 X d p0 S14 Q) Q))) Q))) Q))) Q))) Q))
theorem u_X9_whileDo {σ : Nat → Nat} {n0 : Nat} {bf : ab_B} {d : Nat} {p0 : Nat} {p1 : Int32} {p2 : Int32} {S : zs_T} {Q : zs_Q} (hB : zt_B bf) (hd : 1 ≤ d) (h : w_X9_whileDo (zx σ n0 bf) (d - 1) p0 p1 p2 S Q) : zs_C (zx σ n0 bf) d 8180 [.ref p0, .int p1, .int p2] S Q := by
  have hL : lv_args 0 [.ref p0, .int p1, .int p2] = [(0, .ref p0), (1, .int p1), (2, .int p2)] := rfl
  refine zs_C.of1 (hB.2 8180 (by decide) (by decide)) hd (by rw [hL]; exact zs_sub_self _ (by exact ⟨rfl, rfl, rfl, trivial⟩)) ?_
  rw [hL]
  clear hL
  unfold w_X9_whileDo at h
  refine zu_aload_n d_8180_0 rfl (zs_ra _) ?_
  obtain ⟨k1, h⟩ := h
  refine zc_8_977  hB rfl k1 d_8180_1 (Nat.le_of_ble_eq_true rfl) h (fun S2 h => ?_)
  refine zu_aload_n d_8180_4 rfl (zs_ra _) ?_
  refine zu_bipush d_8180_5 zj_14 ?_
  obtain ⟨k4, h⟩ := h
  refine zc_8_846 (x0 := (14 : Int32)) hB rfl k4 d_8180_7 (Nat.le_of_ble_eq_true rfl) h (fun S5 h => ?_)
  refine zu_aload_n d_8180_10 rfl (zs_ra _) ?_
  refine zu_bipush d_8180_11 zj_81 ?_
  refine zu_iconst d_8180_13 zi_0 ?_
  refine zu_iconst d_8180_14 zi_0 ?_
  refine zu_iconst d_8180_15 zi_0 ?_
  obtain ⟨k7, h⟩ := h
  refine zc_8_656 (x0 := (81 : Int32)) (x1 := (0 : Int32)) (x2 := (0 : Int32)) (x3 := (0 : Int32)) hB rfl k7 d_8180_16 (Nat.le_of_ble_eq_true rfl) h (fun v9 S8 h => ?_)
  refine zu_istore_n d_8180_19 (zs_lt zq_8180 rfl) ?_
  refine zu_aload_n d_8180_20 rfl (zs_ra _) ?_
  refine zu_iload_n d_8180_21 rfl ?_
  obtain ⟨k10, h⟩ := h
  refine zc_8_959 (x0 := p2) hB rfl k10 d_8180_22 (Nat.le_of_ble_eq_true rfl) h (fun S11 h => ?_)
  refine zu_aload_n d_8180_25 rfl (zs_ra _) ?_
  refine zu_bipush d_8180_26 zj_111 ?_
  refine zu_iload_n d_8180_28 rfl ?_
  refine zu_iload_n d_8180_29 rfl ?_
  refine zu_iconst d_8180_30 zi_0 ?_
  obtain ⟨k13, h⟩ := h
  refine zc_8_649 (x0 := (111 : Int32)) (x1 := p1) (x2 := v9) (x3 := (0 : Int32)) hB rfl k13 d_8180_31 (Nat.le_of_ble_eq_true rfl) h (fun S14 h => ?_)
  exact (u_X9_whileDo_34 hB h).weak ⟨rfl, trivial⟩
/-! SchemaPascalModel.whiled(II)V -/
theorem zm_8181 {σ : Nat → Nat} {n0 : Nat} {bf : ab_B} : ab_code (zx σ n0 bf).1 8181 = prog_17_method_172_code := rfl
theorem zq_8181 {σ : Nat → Nat} {n0 : Nat} {bf : ab_B} : ab_maxL (zx σ n0 bf).1 8181 = 4 := rfl
theorem zr_8181 {σ : Nat → Nat} {n0 : Nat} {bf : ab_B} : ab_ret (zx σ n0 bf).1 8181 = (Option.none : Option Jvm.ClassFile.FieldType) := rfl
theorem d_8181_0 {σ : Nat → Nat} {n0 : Nat} {bf : ab_B} : decode (ab_code (zx σ n0 bf).1 8181) 0 = .ok (.aload_n 0, 1) := zd zm_8181 (by decide +kernel)
theorem d_8181_1 {σ : Nat → Nat} {n0 : Nat} {bf : ab_B} : decode (ab_code (zx σ n0 bf).1 8181) 1 = .ok (.bipush 80, 2) := zd zm_8181 (by decide +kernel)
theorem d_8181_3 {σ : Nat → Nat} {n0 : Nat} {bf : ab_B} : decode (ab_code (zx σ n0 bf).1 8181) 3 = .ok (.iload_n 1, 1) := zd zm_8181 (by decide +kernel)
theorem d_8181_4 {σ : Nat → Nat} {n0 : Nat} {bf : ab_B} : decode (ab_code (zx σ n0 bf).1 8181) 4 = .ok (.iconst 0, 1) := zd zm_8181 (by decide +kernel)
theorem d_8181_5 {σ : Nat → Nat} {n0 : Nat} {bf : ab_B} : decode (ab_code (zx σ n0 bf).1 8181) 5 = .ok (.iconst 0, 1) := zd zm_8181 (by decide +kernel)
theorem d_8181_6 {σ : Nat → Nat} {n0 : Nat} {bf : ab_B} : decode (ab_code (zx σ n0 bf).1 8181) 6 = .ok (.invokevirtual 656, 3) := zd zm_8181 (by decide +kernel)
theorem d_8181_9 {σ : Nat → Nat} {n0 : Nat} {bf : ab_B} : decode (ab_code (zx σ n0 bf).1 8181) 9 = .ok (.istore_n 3, 1) := zd zm_8181 (by decide +kernel)
theorem d_8181_10 {σ : Nat → Nat} {n0 : Nat} {bf : ab_B} : decode (ab_code (zx σ n0 bf).1 8181) 10 = .ok (.aload_n 0, 1) := zd zm_8181 (by decide +kernel)
theorem d_8181_11 {σ : Nat → Nat} {n0 : Nat} {bf : ab_B} : decode (ab_code (zx σ n0 bf).1 8181) 11 = .ok (.getfield 75, 3) := zd zm_8181 (by decide +kernel)
theorem d_8181_14 {σ : Nat → Nat} {n0 : Nat} {bf : ab_B} : decode (ab_code (zx σ n0 bf).1 8181) 14 = .ok (.iload_n 2, 1) := zd zm_8181 (by decide +kernel)
theorem d_8181_15 {σ : Nat → Nat} {n0 : Nat} {bf : ab_B} : decode (ab_code (zx σ n0 bf).1 8181) 15 = .ok (.aload_n 0, 1) := zd zm_8181 (by decide +kernel)
theorem d_8181_16 {σ : Nat → Nat} {n0 : Nat} {bf : ab_B} : decode (ab_code (zx σ n0 bf).1 8181) 16 = .ok (.getfield 556, 3) := zd zm_8181 (by decide +kernel)
theorem d_8181_19 {σ : Nat → Nat} {n0 : Nat} {bf : ab_B} : decode (ab_code (zx σ n0 bf).1 8181) 19 = .ok (.iastore, 1) := zd zm_8181 (by decide +kernel)
theorem d_8181_20 {σ : Nat → Nat} {n0 : Nat} {bf : ab_B} : decode (ab_code (zx σ n0 bf).1 8181) 20 = .ok (.return_, 1) := zd zm_8181 (by decide +kernel)
def w_X9_whiled (X : zs_X) (d : Nat) (p0 : Nat) (p1 : Int32) (p2 : Int32) (S : zs_T) (Q : zs_Q) : Prop :=
  (zs_K S p0 = some (.inl 8) ∧ zs_C X d 8012 [.ref p0, .int (80 : Int32), .int p1, .int (0 : Int32), .int (0 : Int32)] S (zs_kI (fun v3 S2 => (zs_K S2 p0 = some (.inl 8) ∧ ∃ b5, (zs_R S2 8037 p0) = some b5 ∧ zs_A S2 b5 0 p2 ∧ ab_n0 X.1 ≤ b5 ∧ ∀ S9, S9 = zs_si S2 b5 p2.toNatClampNeg (zs_I S2 8040 p0) → Q (.returned none) S9)) Q))
theorem u_X9_whiled {σ : Nat → Nat} {n0 : Nat} {bf : ab_B} {d : Nat} {p0 : Nat} {p1 : Int32} {p2 : Int32} {S : zs_T} {Q : zs_Q} (hB : zt_B bf) (hd : 1 ≤ d) (h : w_X9_whiled (zx σ n0 bf) (d - 1) p0 p1 p2 S Q) : zs_C (zx σ n0 bf) d 8181 [.ref p0, .int p1, .int p2] S Q := by
  have hL : lv_args 0 [.ref p0, .int p1, .int p2] = [(0, .ref p0), (1, .int p1), (2, .int p2)] := rfl
  refine zs_C.of1 (hB.2 8181 (by decide) (by decide)) hd (by rw [hL]; exact zs_sub_self _ (by exact ⟨rfl, rfl, rfl, trivial⟩)) ?_
  rw [hL]
  clear hL
  unfold w_X9_whiled at h
  refine zu_aload_n d_8181_0 rfl (zs_ra _) ?_
  refine zu_bipush d_8181_1 zj_80 ?_
  refine zu_iload_n d_8181_3 rfl ?_
  refine zu_iconst d_8181_4 zi_0 ?_
  refine zu_iconst d_8181_5 zi_0 ?_
  obtain ⟨k1, h⟩ := h
  refine zc_8_656 (x0 := (80 : Int32)) (x1 := p1) (x2 := (0 : Int32)) (x3 := (0 : Int32)) hB rfl k1 d_8181_6 (Nat.le_of_ble_eq_true rfl) h (fun v3 S2 h => ?_)
  refine zu_istore_n d_8181_9 (zs_lt zq_8181 rfl) ?_
  refine zu_aload_n d_8181_10 rfl (zs_ra _) ?_
  obtain ⟨k4, h⟩ := h
  refine zg_8_75 rfl d_8181_11 k4 ?_
  refine zu_iload_n d_8181_14 rfl ?_
  refine zu_aload_n d_8181_15 rfl (zs_ra _) ?_
  refine zg_8_556 rfl d_8181_16 k4 ?_
  obtain ⟨b5, e6, h⟩ := h
  refine zs_stk2 (zs_rfe e6) ?_
  obtain ⟨k7, h⟩ := h
  obtain ⟨k8, h⟩ := h
  refine zu_iast (k := 0) d_8181_19 rfl rfl k8 k7 ?_
  generalize e10 : zs_si S2 b5 p2.toNatClampNeg (zs_I S2 8040 p0) = S9
  have h := h S9 e10.symm
  have K11 : ∀ b, zs_K S9 b = zs_K S2 b := zs_Kt e10 (zs_Ksi _ _ _ _) (fun _ => rfl)
  exact zu_vret d_8181_20 zr_8181 h
/-! SchemaPascalModel.untils(I)V -/
theorem zm_8182 {σ : Nat → Nat} {n0 : Nat} {bf : ab_B} : ab_code (zx σ n0 bf).1 8182 = prog_17_method_173_code := rfl
theorem zq_8182 {σ : Nat → Nat} {n0 : Nat} {bf : ab_B} : ab_maxL (zx σ n0 bf).1 8182 = 2 := rfl
theorem zr_8182 {σ : Nat → Nat} {n0 : Nat} {bf : ab_B} : ab_ret (zx σ n0 bf).1 8182 = (Option.none : Option Jvm.ClassFile.FieldType) := rfl
theorem d_8182_0 {σ : Nat → Nat} {n0 : Nat} {bf : ab_B} : decode (ab_code (zx σ n0 bf).1 8182) 0 = .ok (.aload_n 0, 1) := zd zm_8182 (by decide +kernel)
theorem d_8182_1 {σ : Nat → Nat} {n0 : Nat} {bf : ab_B} : decode (ab_code (zx σ n0 bf).1 8182) 1 = .ok (.bipush 16, 2) := zd zm_8182 (by decide +kernel)
theorem d_8182_3 {σ : Nat → Nat} {n0 : Nat} {bf : ab_B} : decode (ab_code (zx σ n0 bf).1 8182) 3 = .ok (.invokevirtual 846, 3) := zd zm_8182 (by decide +kernel)
theorem d_8182_6 {σ : Nat → Nat} {n0 : Nat} {bf : ab_B} : decode (ab_code (zx σ n0 bf).1 8182) 6 = .ok (.aload_n 0, 1) := zd zm_8182 (by decide +kernel)
theorem d_8182_7 {σ : Nat → Nat} {n0 : Nat} {bf : ab_B} : decode (ab_code (zx σ n0 bf).1 8182) 7 = .ok (.bipush 113, 2) := zd zm_8182 (by decide +kernel)
theorem d_8182_9 {σ : Nat → Nat} {n0 : Nat} {bf : ab_B} : decode (ab_code (zx σ n0 bf).1 8182) 9 = .ok (.iload_n 1, 1) := zd zm_8182 (by decide +kernel)
theorem d_8182_10 {σ : Nat → Nat} {n0 : Nat} {bf : ab_B} : decode (ab_code (zx σ n0 bf).1 8182) 10 = .ok (.iconst 0, 1) := zd zm_8182 (by decide +kernel)
theorem d_8182_11 {σ : Nat → Nat} {n0 : Nat} {bf : ab_B} : decode (ab_code (zx σ n0 bf).1 8182) 11 = .ok (.iconst 0, 1) := zd zm_8182 (by decide +kernel)
theorem d_8182_12 {σ : Nat → Nat} {n0 : Nat} {bf : ab_B} : decode (ab_code (zx σ n0 bf).1 8182) 12 = .ok (.invokevirtual 649, 3) := zd zm_8182 (by decide +kernel)
theorem d_8182_15 {σ : Nat → Nat} {n0 : Nat} {bf : ab_B} : decode (ab_code (zx σ n0 bf).1 8182) 15 = .ok (.aload_n 0, 1) := zd zm_8182 (by decide +kernel)
theorem d_8182_16 {σ : Nat → Nat} {n0 : Nat} {bf : ab_B} : decode (ab_code (zx σ n0 bf).1 8182) 16 = .ok (.iconst 2, 1) := zd zm_8182 (by decide +kernel)
theorem d_8182_17 {σ : Nat → Nat} {n0 : Nat} {bf : ab_B} : decode (ab_code (zx σ n0 bf).1 8182) 17 = .ok (.iconst 0, 1) := zd zm_8182 (by decide +kernel)
theorem d_8182_18 {σ : Nat → Nat} {n0 : Nat} {bf : ab_B} : decode (ab_code (zx σ n0 bf).1 8182) 18 = .ok (.iconst 0, 1) := zd zm_8182 (by decide +kernel)
theorem d_8182_19 {σ : Nat → Nat} {n0 : Nat} {bf : ab_B} : decode (ab_code (zx σ n0 bf).1 8182) 19 = .ok (.iconst 0, 1) := zd zm_8182 (by decide +kernel)
theorem d_8182_20 {σ : Nat → Nat} {n0 : Nat} {bf : ab_B} : decode (ab_code (zx σ n0 bf).1 8182) 20 = .ok (.invokevirtual 649, 3) := zd zm_8182 (by decide +kernel)
theorem d_8182_23 {σ : Nat → Nat} {n0 : Nat} {bf : ab_B} : decode (ab_code (zx σ n0 bf).1 8182) 23 = .ok (.return_, 1) := zd zm_8182 (by decide +kernel)
def w_X9_untils (X : zs_X) (d : Nat) (p0 : Nat) (p1 : Int32) (S : zs_T) (Q : zs_Q) : Prop :=
  (zs_K S p0 = some (.inl 8) ∧ zs_C X d 8025 [.ref p0, .int (16 : Int32)] S (zs_kV (fun S2 => (zs_K S2 p0 = some (.inl 8) ∧ zs_C X d 8030 [.ref p0, .int (113 : Int32), .int p1, .int (0 : Int32), .int (0 : Int32)] S2 (zs_kV (fun S5 => (zs_K S5 p0 = some (.inl 8) ∧ zs_C X d 8030 [.ref p0, .int (2 : Int32), .int (0 : Int32), .int (0 : Int32), .int (0 : Int32)] S5 (zs_kV (fun S8 => (Q (.returned none) S8)) Q))) Q))) Q))
theorem u_X9_untils {σ : Nat → Nat} {n0 : Nat} {bf : ab_B} {d : Nat} {p0 : Nat} {p1 : Int32} {S : zs_T} {Q : zs_Q} (hB : zt_B bf) (hd : 1 ≤ d) (h : w_X9_untils (zx σ n0 bf) (d - 1) p0 p1 S Q) : zs_C (zx σ n0 bf) d 8182 [.ref p0, .int p1] S Q := by
  have hL : lv_args 0 [.ref p0, .int p1] = [(0, .ref p0), (1, .int p1)] := rfl
  refine zs_C.of1 (hB.2 8182 (by decide) (by decide)) hd (by rw [hL]; exact zs_sub_self _ (by exact ⟨rfl, rfl, trivial⟩)) ?_
  rw [hL]
  clear hL
  unfold w_X9_untils at h
  refine zu_aload_n d_8182_0 rfl (zs_ra _) ?_
  refine zu_bipush d_8182_1 zj_16 ?_
  obtain ⟨k1, h⟩ := h
  refine zc_8_846 (x0 := (16 : Int32)) hB rfl k1 d_8182_3 (Nat.le_of_ble_eq_true rfl) h (fun S2 h => ?_)
  refine zu_aload_n d_8182_6 rfl (zs_ra _) ?_
  refine zu_bipush d_8182_7 zj_113 ?_
  refine zu_iload_n d_8182_9 rfl ?_
  refine zu_iconst d_8182_10 zi_0 ?_
  refine zu_iconst d_8182_11 zi_0 ?_
  obtain ⟨k4, h⟩ := h
  refine zc_8_649 (x0 := (113 : Int32)) (x1 := p1) (x2 := (0 : Int32)) (x3 := (0 : Int32)) hB rfl k4 d_8182_12 (Nat.le_of_ble_eq_true rfl) h (fun S5 h => ?_)
  refine zu_aload_n d_8182_15 rfl (zs_ra _) ?_
  refine zu_iconst d_8182_16 zi_2 ?_
  refine zu_iconst d_8182_17 zi_0 ?_
  refine zu_iconst d_8182_18 zi_0 ?_
  refine zu_iconst d_8182_19 zi_0 ?_
  obtain ⟨k7, h⟩ := h
  refine zc_8_649 (x0 := (2 : Int32)) (x1 := (0 : Int32)) (x2 := (0 : Int32)) (x3 := (0 : Int32)) hB rfl k7 d_8182_20 (Nat.le_of_ble_eq_true rfl) h (fun S8 h => ?_)
  exact zu_vret d_8182_23 zr_8182 h
/-! SchemaPascalModel.untiled(I)V -/
theorem zm_8183 {σ : Nat → Nat} {n0 : Nat} {bf : ab_B} : ab_code (zx σ n0 bf).1 8183 = prog_17_method_174_code := rfl
theorem zq_8183 {σ : Nat → Nat} {n0 : Nat} {bf : ab_B} : ab_maxL (zx σ n0 bf).1 8183 = 3 := rfl
theorem zr_8183 {σ : Nat → Nat} {n0 : Nat} {bf : ab_B} : ab_ret (zx σ n0 bf).1 8183 = (Option.none : Option Jvm.ClassFile.FieldType) := rfl
theorem d_8183_0 {σ : Nat → Nat} {n0 : Nat} {bf : ab_B} : decode (ab_code (zx σ n0 bf).1 8183) 0 = .ok (.aload_n 0, 1) := zd zm_8183 (by decide +kernel)
theorem d_8183_1 {σ : Nat → Nat} {n0 : Nat} {bf : ab_B} : decode (ab_code (zx σ n0 bf).1 8183) 1 = .ok (.invokevirtual 977, 3) := zd zm_8183 (by decide +kernel)
theorem d_8183_4 {σ : Nat → Nat} {n0 : Nat} {bf : ab_B} : decode (ab_code (zx σ n0 bf).1 8183) 4 = .ok (.aload_n 0, 1) := zd zm_8183 (by decide +kernel)
theorem d_8183_5 {σ : Nat → Nat} {n0 : Nat} {bf : ab_B} : decode (ab_code (zx σ n0 bf).1 8183) 5 = .ok (.bipush 81, 2) := zd zm_8183 (by decide +kernel)
theorem d_8183_7 {σ : Nat → Nat} {n0 : Nat} {bf : ab_B} : decode (ab_code (zx σ n0 bf).1 8183) 7 = .ok (.iload_n 1, 1) := zd zm_8183 (by decide +kernel)
theorem d_8183_8 {σ : Nat → Nat} {n0 : Nat} {bf : ab_B} : decode (ab_code (zx σ n0 bf).1 8183) 8 = .ok (.iconst 0, 1) := zd zm_8183 (by decide +kernel)
theorem d_8183_9 {σ : Nat → Nat} {n0 : Nat} {bf : ab_B} : decode (ab_code (zx σ n0 bf).1 8183) 9 = .ok (.iconst 0, 1) := zd zm_8183 (by decide +kernel)
theorem d_8183_10 {σ : Nat → Nat} {n0 : Nat} {bf : ab_B} : decode (ab_code (zx σ n0 bf).1 8183) 10 = .ok (.invokevirtual 656, 3) := zd zm_8183 (by decide +kernel)
theorem d_8183_13 {σ : Nat → Nat} {n0 : Nat} {bf : ab_B} : decode (ab_code (zx σ n0 bf).1 8183) 13 = .ok (.istore_n 2, 1) := zd zm_8183 (by decide +kernel)
theorem d_8183_14 {σ : Nat → Nat} {n0 : Nat} {bf : ab_B} : decode (ab_code (zx σ n0 bf).1 8183) 14 = .ok (.return_, 1) := zd zm_8183 (by decide +kernel)
def w_X9_untiled (X : zs_X) (d : Nat) (p0 : Nat) (p1 : Int32) (S : zs_T) (Q : zs_Q) : Prop :=
  (zs_K S p0 = some (.inl 8) ∧ zs_C X d 8178 [.ref p0] S (zs_kV (fun S2 => (zs_K S2 p0 = some (.inl 8) ∧ zs_C X d 8012 [.ref p0, .int (81 : Int32), .int p1, .int (0 : Int32), .int (0 : Int32)] S2 (zs_kI (fun v6 S5 => (Q (.returned none) S5)) Q))) Q))
theorem u_X9_untiled {σ : Nat → Nat} {n0 : Nat} {bf : ab_B} {d : Nat} {p0 : Nat} {p1 : Int32} {S : zs_T} {Q : zs_Q} (hB : zt_B bf) (hd : 1 ≤ d) (h : w_X9_untiled (zx σ n0 bf) (d - 1) p0 p1 S Q) : zs_C (zx σ n0 bf) d 8183 [.ref p0, .int p1] S Q := by
  have hL : lv_args 0 [.ref p0, .int p1] = [(0, .ref p0), (1, .int p1)] := rfl
  refine zs_C.of1 (hB.2 8183 (by decide) (by decide)) hd (by rw [hL]; exact zs_sub_self _ (by exact ⟨rfl, rfl, trivial⟩)) ?_
  rw [hL]
  clear hL
  unfold w_X9_untiled at h
  refine zu_aload_n d_8183_0 rfl (zs_ra _) ?_
  obtain ⟨k1, h⟩ := h
  refine zc_8_977  hB rfl k1 d_8183_1 (Nat.le_of_ble_eq_true rfl) h (fun S2 h => ?_)
  refine zu_aload_n d_8183_4 rfl (zs_ra _) ?_
  refine zu_bipush d_8183_5 zj_81 ?_
  refine zu_iload_n d_8183_7 rfl ?_
  refine zu_iconst d_8183_8 zi_0 ?_
  refine zu_iconst d_8183_9 zi_0 ?_
  obtain ⟨k4, h⟩ := h
  refine zc_8_656 (x0 := (81 : Int32)) (x1 := p1) (x2 := (0 : Int32)) (x3 := (0 : Int32)) hB rfl k4 d_8183_10 (Nat.le_of_ble_eq_true rfl) h (fun v6 S5 h => ?_)
  refine zu_istore_n d_8183_13 (zs_lt zq_8183 rfl) ?_
  exact zu_vret d_8183_14 zr_8183 h
/-! SchemaPascalModel.laterGoal(IIII)V -/
theorem zm_8184 {σ : Nat → Nat} {n0 : Nat} {bf : ab_B} : ab_code (zx σ n0 bf).1 8184 = prog_17_method_200_code := rfl
theorem zq_8184 {σ : Nat → Nat} {n0 : Nat} {bf : ab_B} : ab_maxL (zx σ n0 bf).1 8184 = 5 := rfl
theorem zr_8184 {σ : Nat → Nat} {n0 : Nat} {bf : ab_B} : ab_ret (zx σ n0 bf).1 8184 = (Option.none : Option Jvm.ClassFile.FieldType) := rfl
theorem d_8184_0 {σ : Nat → Nat} {n0 : Nat} {bf : ab_B} : decode (ab_code (zx σ n0 bf).1 8184) 0 = .ok (.iload_n 1, 1) := zd zm_8184 (by decide +kernel)
theorem d_8184_1 {σ : Nat → Nat} {n0 : Nat} {bf : ab_B} : decode (ab_code (zx σ n0 bf).1 8184) 1 = .ok (.tableswitch 216 114 128 #[75, 84, 95, 106, 114, 122, 130, 137, 155, 163, 171, 179, 190, 198, 207], 75) := zd zm_8184 (by decide +kernel)
theorem d_8184_76 {σ : Nat → Nat} {n0 : Nat} {bf : ab_B} : decode (ab_code (zx σ n0 bf).1 8184) 76 = .ok (.aload_n 0, 1) := zd zm_8184 (by decide +kernel)
theorem d_8184_77 {σ : Nat → Nat} {n0 : Nat} {bf : ab_B} : decode (ab_code (zx σ n0 bf).1 8184) 77 = .ok (.iload_n 2, 1) := zd zm_8184 (by decide +kernel)
theorem d_8184_78 {σ : Nat → Nat} {n0 : Nat} {bf : ab_B} : decode (ab_code (zx σ n0 bf).1 8184) 78 = .ok (.iload_n 3, 1) := zd zm_8184 (by decide +kernel)
theorem d_8184_79 {σ : Nat → Nat} {n0 : Nat} {bf : ab_B} : decode (ab_code (zx σ n0 bf).1 8184) 79 = .ok (.invokevirtual 1163, 3) := zd zm_8184 (by decide +kernel)
theorem d_8184_82 {σ : Nat → Nat} {n0 : Nat} {bf : ab_B} : decode (ab_code (zx σ n0 bf).1 8184) 82 = .ok (.goto 141, 3) := zd zm_8184 (by decide +kernel)
theorem d_8184_85 {σ : Nat → Nat} {n0 : Nat} {bf : ab_B} : decode (ab_code (zx σ n0 bf).1 8184) 85 = .ok (.aload_n 0, 1) := zd zm_8184 (by decide +kernel)
theorem d_8184_86 {σ : Nat → Nat} {n0 : Nat} {bf : ab_B} : decode (ab_code (zx σ n0 bf).1 8184) 86 = .ok (.iload_n 2, 1) := zd zm_8184 (by decide +kernel)
theorem d_8184_87 {σ : Nat → Nat} {n0 : Nat} {bf : ab_B} : decode (ab_code (zx σ n0 bf).1 8184) 87 = .ok (.iload_n 3, 1) := zd zm_8184 (by decide +kernel)
theorem d_8184_88 {σ : Nat → Nat} {n0 : Nat} {bf : ab_B} : decode (ab_code (zx σ n0 bf).1 8184) 88 = .ok (.iload 4, 2) := zd zm_8184 (by decide +kernel)
theorem d_8184_90 {σ : Nat → Nat} {n0 : Nat} {bf : ab_B} : decode (ab_code (zx σ n0 bf).1 8184) 90 = .ok (.invokevirtual 1166, 3) := zd zm_8184 (by decide +kernel)
theorem d_8184_93 {σ : Nat → Nat} {n0 : Nat} {bf : ab_B} : decode (ab_code (zx σ n0 bf).1 8184) 93 = .ok (.goto 130, 3) := zd zm_8184 (by decide +kernel)
theorem d_8184_96 {σ : Nat → Nat} {n0 : Nat} {bf : ab_B} : decode (ab_code (zx σ n0 bf).1 8184) 96 = .ok (.aload_n 0, 1) := zd zm_8184 (by decide +kernel)
theorem d_8184_97 {σ : Nat → Nat} {n0 : Nat} {bf : ab_B} : decode (ab_code (zx σ n0 bf).1 8184) 97 = .ok (.iload_n 2, 1) := zd zm_8184 (by decide +kernel)
theorem d_8184_98 {σ : Nat → Nat} {n0 : Nat} {bf : ab_B} : decode (ab_code (zx σ n0 bf).1 8184) 98 = .ok (.iload_n 3, 1) := zd zm_8184 (by decide +kernel)
theorem d_8184_99 {σ : Nat → Nat} {n0 : Nat} {bf : ab_B} : decode (ab_code (zx σ n0 bf).1 8184) 99 = .ok (.iload 4, 2) := zd zm_8184 (by decide +kernel)
theorem d_8184_101 {σ : Nat → Nat} {n0 : Nat} {bf : ab_B} : decode (ab_code (zx σ n0 bf).1 8184) 101 = .ok (.invokevirtual 1169, 3) := zd zm_8184 (by decide +kernel)
theorem d_8184_104 {σ : Nat → Nat} {n0 : Nat} {bf : ab_B} : decode (ab_code (zx σ n0 bf).1 8184) 104 = .ok (.goto 119, 3) := zd zm_8184 (by decide +kernel)
theorem d_8184_107 {σ : Nat → Nat} {n0 : Nat} {bf : ab_B} : decode (ab_code (zx σ n0 bf).1 8184) 107 = .ok (.aload_n 0, 1) := zd zm_8184 (by decide +kernel)
theorem d_8184_108 {σ : Nat → Nat} {n0 : Nat} {bf : ab_B} : decode (ab_code (zx σ n0 bf).1 8184) 108 = .ok (.iload_n 2, 1) := zd zm_8184 (by decide +kernel)
theorem d_8184_109 {σ : Nat → Nat} {n0 : Nat} {bf : ab_B} : decode (ab_code (zx σ n0 bf).1 8184) 109 = .ok (.invokevirtual 1172, 3) := zd zm_8184 (by decide +kernel)
theorem d_8184_112 {σ : Nat → Nat} {n0 : Nat} {bf : ab_B} : decode (ab_code (zx σ n0 bf).1 8184) 112 = .ok (.goto 111, 3) := zd zm_8184 (by decide +kernel)
theorem d_8184_115 {σ : Nat → Nat} {n0 : Nat} {bf : ab_B} : decode (ab_code (zx σ n0 bf).1 8184) 115 = .ok (.aload_n 0, 1) := zd zm_8184 (by decide +kernel)
theorem d_8184_116 {σ : Nat → Nat} {n0 : Nat} {bf : ab_B} : decode (ab_code (zx σ n0 bf).1 8184) 116 = .ok (.iconst 0, 1) := zd zm_8184 (by decide +kernel)
theorem d_8184_117 {σ : Nat → Nat} {n0 : Nat} {bf : ab_B} : decode (ab_code (zx σ n0 bf).1 8184) 117 = .ok (.invokevirtual 1175, 3) := zd zm_8184 (by decide +kernel)
theorem d_8184_120 {σ : Nat → Nat} {n0 : Nat} {bf : ab_B} : decode (ab_code (zx σ n0 bf).1 8184) 120 = .ok (.goto 103, 3) := zd zm_8184 (by decide +kernel)
theorem d_8184_123 {σ : Nat → Nat} {n0 : Nat} {bf : ab_B} : decode (ab_code (zx σ n0 bf).1 8184) 123 = .ok (.aload_n 0, 1) := zd zm_8184 (by decide +kernel)
theorem d_8184_124 {σ : Nat → Nat} {n0 : Nat} {bf : ab_B} : decode (ab_code (zx σ n0 bf).1 8184) 124 = .ok (.iconst 1, 1) := zd zm_8184 (by decide +kernel)
theorem d_8184_125 {σ : Nat → Nat} {n0 : Nat} {bf : ab_B} : decode (ab_code (zx σ n0 bf).1 8184) 125 = .ok (.invokevirtual 1175, 3) := zd zm_8184 (by decide +kernel)
theorem d_8184_128 {σ : Nat → Nat} {n0 : Nat} {bf : ab_B} : decode (ab_code (zx σ n0 bf).1 8184) 128 = .ok (.goto 95, 3) := zd zm_8184 (by decide +kernel)
theorem d_8184_131 {σ : Nat → Nat} {n0 : Nat} {bf : ab_B} : decode (ab_code (zx σ n0 bf).1 8184) 131 = .ok (.aload_n 0, 1) := zd zm_8184 (by decide +kernel)
theorem d_8184_132 {σ : Nat → Nat} {n0 : Nat} {bf : ab_B} : decode (ab_code (zx σ n0 bf).1 8184) 132 = .ok (.invokevirtual 1178, 3) := zd zm_8184 (by decide +kernel)
theorem d_8184_135 {σ : Nat → Nat} {n0 : Nat} {bf : ab_B} : decode (ab_code (zx σ n0 bf).1 8184) 135 = .ok (.goto 88, 3) := zd zm_8184 (by decide +kernel)
theorem d_8184_138 {σ : Nat → Nat} {n0 : Nat} {bf : ab_B} : decode (ab_code (zx σ n0 bf).1 8184) 138 = .ok (.aload_n 0, 1) := zd zm_8184 (by decide +kernel)
theorem d_8184_139 {σ : Nat → Nat} {n0 : Nat} {bf : ab_B} : decode (ab_code (zx σ n0 bf).1 8184) 139 = .ok (.iload_n 2, 1) := zd zm_8184 (by decide +kernel)
theorem d_8184_140 {σ : Nat → Nat} {n0 : Nat} {bf : ab_B} : decode (ab_code (zx σ n0 bf).1 8184) 140 = .ok (.iload_n 3, 1) := zd zm_8184 (by decide +kernel)
theorem d_8184_141 {σ : Nat → Nat} {n0 : Nat} {bf : ab_B} : decode (ab_code (zx σ n0 bf).1 8184) 141 = .ok (.iconst 1, 1) := zd zm_8184 (by decide +kernel)
theorem d_8184_142 {σ : Nat → Nat} {n0 : Nat} {bf : ab_B} : decode (ab_code (zx σ n0 bf).1 8184) 142 = .ok (.if_icmp .ne 7, 3) := zd zm_8184 (by decide +kernel)
theorem d_8184_145 {σ : Nat → Nat} {n0 : Nat} {bf : ab_B} : decode (ab_code (zx σ n0 bf).1 8184) 145 = .ok (.iconst 1, 1) := zd zm_8184 (by decide +kernel)
theorem d_8184_146 {σ : Nat → Nat} {n0 : Nat} {bf : ab_B} : decode (ab_code (zx σ n0 bf).1 8184) 146 = .ok (.goto 4, 3) := zd zm_8184 (by decide +kernel)
theorem d_8184_149 {σ : Nat → Nat} {n0 : Nat} {bf : ab_B} : decode (ab_code (zx σ n0 bf).1 8184) 149 = .ok (.iconst 0, 1) := zd zm_8184 (by decide +kernel)
theorem d_8184_150 {σ : Nat → Nat} {n0 : Nat} {bf : ab_B} : decode (ab_code (zx σ n0 bf).1 8184) 150 = .ok (.invokevirtual 1181, 3) := zd zm_8184 (by decide +kernel)
theorem d_8184_153 {σ : Nat → Nat} {n0 : Nat} {bf : ab_B} : decode (ab_code (zx σ n0 bf).1 8184) 153 = .ok (.goto 70, 3) := zd zm_8184 (by decide +kernel)
theorem d_8184_156 {σ : Nat → Nat} {n0 : Nat} {bf : ab_B} : decode (ab_code (zx σ n0 bf).1 8184) 156 = .ok (.aload_n 0, 1) := zd zm_8184 (by decide +kernel)
theorem d_8184_157 {σ : Nat → Nat} {n0 : Nat} {bf : ab_B} : decode (ab_code (zx σ n0 bf).1 8184) 157 = .ok (.iload_n 2, 1) := zd zm_8184 (by decide +kernel)
theorem d_8184_158 {σ : Nat → Nat} {n0 : Nat} {bf : ab_B} : decode (ab_code (zx σ n0 bf).1 8184) 158 = .ok (.invokevirtual 1183, 3) := zd zm_8184 (by decide +kernel)
theorem d_8184_161 {σ : Nat → Nat} {n0 : Nat} {bf : ab_B} : decode (ab_code (zx σ n0 bf).1 8184) 161 = .ok (.goto 62, 3) := zd zm_8184 (by decide +kernel)
theorem d_8184_164 {σ : Nat → Nat} {n0 : Nat} {bf : ab_B} : decode (ab_code (zx σ n0 bf).1 8184) 164 = .ok (.aload_n 0, 1) := zd zm_8184 (by decide +kernel)
theorem d_8184_165 {σ : Nat → Nat} {n0 : Nat} {bf : ab_B} : decode (ab_code (zx σ n0 bf).1 8184) 165 = .ok (.iload_n 2, 1) := zd zm_8184 (by decide +kernel)
theorem d_8184_166 {σ : Nat → Nat} {n0 : Nat} {bf : ab_B} : decode (ab_code (zx σ n0 bf).1 8184) 166 = .ok (.invokevirtual 1186, 3) := zd zm_8184 (by decide +kernel)
theorem d_8184_169 {σ : Nat → Nat} {n0 : Nat} {bf : ab_B} : decode (ab_code (zx σ n0 bf).1 8184) 169 = .ok (.goto 54, 3) := zd zm_8184 (by decide +kernel)
theorem d_8184_172 {σ : Nat → Nat} {n0 : Nat} {bf : ab_B} : decode (ab_code (zx σ n0 bf).1 8184) 172 = .ok (.aload_n 0, 1) := zd zm_8184 (by decide +kernel)
theorem d_8184_173 {σ : Nat → Nat} {n0 : Nat} {bf : ab_B} : decode (ab_code (zx σ n0 bf).1 8184) 173 = .ok (.iload_n 3, 1) := zd zm_8184 (by decide +kernel)
theorem d_8184_174 {σ : Nat → Nat} {n0 : Nat} {bf : ab_B} : decode (ab_code (zx σ n0 bf).1 8184) 174 = .ok (.invokevirtual 1189, 3) := zd zm_8184 (by decide +kernel)
theorem d_8184_177 {σ : Nat → Nat} {n0 : Nat} {bf : ab_B} : decode (ab_code (zx σ n0 bf).1 8184) 177 = .ok (.goto 46, 3) := zd zm_8184 (by decide +kernel)
theorem d_8184_180 {σ : Nat → Nat} {n0 : Nat} {bf : ab_B} : decode (ab_code (zx σ n0 bf).1 8184) 180 = .ok (.aload_n 0, 1) := zd zm_8184 (by decide +kernel)
theorem d_8184_181 {σ : Nat → Nat} {n0 : Nat} {bf : ab_B} : decode (ab_code (zx σ n0 bf).1 8184) 181 = .ok (.iload_n 2, 1) := zd zm_8184 (by decide +kernel)
theorem d_8184_182 {σ : Nat → Nat} {n0 : Nat} {bf : ab_B} : decode (ab_code (zx σ n0 bf).1 8184) 182 = .ok (.iload_n 3, 1) := zd zm_8184 (by decide +kernel)
theorem d_8184_183 {σ : Nat → Nat} {n0 : Nat} {bf : ab_B} : decode (ab_code (zx σ n0 bf).1 8184) 183 = .ok (.iload 4, 2) := zd zm_8184 (by decide +kernel)
theorem d_8184_185 {σ : Nat → Nat} {n0 : Nat} {bf : ab_B} : decode (ab_code (zx σ n0 bf).1 8184) 185 = .ok (.invokevirtual 1192, 3) := zd zm_8184 (by decide +kernel)
theorem d_8184_188 {σ : Nat → Nat} {n0 : Nat} {bf : ab_B} : decode (ab_code (zx σ n0 bf).1 8184) 188 = .ok (.goto 35, 3) := zd zm_8184 (by decide +kernel)
theorem d_8184_191 {σ : Nat → Nat} {n0 : Nat} {bf : ab_B} : decode (ab_code (zx σ n0 bf).1 8184) 191 = .ok (.aload_n 0, 1) := zd zm_8184 (by decide +kernel)
theorem d_8184_192 {σ : Nat → Nat} {n0 : Nat} {bf : ab_B} : decode (ab_code (zx σ n0 bf).1 8184) 192 = .ok (.iload_n 3, 1) := zd zm_8184 (by decide +kernel)
theorem d_8184_193 {σ : Nat → Nat} {n0 : Nat} {bf : ab_B} : decode (ab_code (zx σ n0 bf).1 8184) 193 = .ok (.invokevirtual 1195, 3) := zd zm_8184 (by decide +kernel)
theorem d_8184_196 {σ : Nat → Nat} {n0 : Nat} {bf : ab_B} : decode (ab_code (zx σ n0 bf).1 8184) 196 = .ok (.goto 27, 3) := zd zm_8184 (by decide +kernel)
theorem d_8184_199 {σ : Nat → Nat} {n0 : Nat} {bf : ab_B} : decode (ab_code (zx σ n0 bf).1 8184) 199 = .ok (.aload_n 0, 1) := zd zm_8184 (by decide +kernel)
theorem d_8184_200 {σ : Nat → Nat} {n0 : Nat} {bf : ab_B} : decode (ab_code (zx σ n0 bf).1 8184) 200 = .ok (.iload_n 2, 1) := zd zm_8184 (by decide +kernel)
theorem d_8184_201 {σ : Nat → Nat} {n0 : Nat} {bf : ab_B} : decode (ab_code (zx σ n0 bf).1 8184) 201 = .ok (.iload_n 3, 1) := zd zm_8184 (by decide +kernel)
theorem d_8184_202 {σ : Nat → Nat} {n0 : Nat} {bf : ab_B} : decode (ab_code (zx σ n0 bf).1 8184) 202 = .ok (.invokevirtual 1198, 3) := zd zm_8184 (by decide +kernel)
theorem d_8184_205 {σ : Nat → Nat} {n0 : Nat} {bf : ab_B} : decode (ab_code (zx σ n0 bf).1 8184) 205 = .ok (.goto 18, 3) := zd zm_8184 (by decide +kernel)
theorem d_8184_208 {σ : Nat → Nat} {n0 : Nat} {bf : ab_B} : decode (ab_code (zx σ n0 bf).1 8184) 208 = .ok (.aload_n 0, 1) := zd zm_8184 (by decide +kernel)
theorem d_8184_209 {σ : Nat → Nat} {n0 : Nat} {bf : ab_B} : decode (ab_code (zx σ n0 bf).1 8184) 209 = .ok (.iload_n 2, 1) := zd zm_8184 (by decide +kernel)
theorem d_8184_210 {σ : Nat → Nat} {n0 : Nat} {bf : ab_B} : decode (ab_code (zx σ n0 bf).1 8184) 210 = .ok (.iload_n 3, 1) := zd zm_8184 (by decide +kernel)
theorem d_8184_211 {σ : Nat → Nat} {n0 : Nat} {bf : ab_B} : decode (ab_code (zx σ n0 bf).1 8184) 211 = .ok (.invokevirtual 1201, 3) := zd zm_8184 (by decide +kernel)
theorem d_8184_214 {σ : Nat → Nat} {n0 : Nat} {bf : ab_B} : decode (ab_code (zx σ n0 bf).1 8184) 214 = .ok (.goto 9, 3) := zd zm_8184 (by decide +kernel)
theorem d_8184_217 {σ : Nat → Nat} {n0 : Nat} {bf : ab_B} : decode (ab_code (zx σ n0 bf).1 8184) 217 = .ok (.aload_n 0, 1) := zd zm_8184 (by decide +kernel)
theorem d_8184_218 {σ : Nat → Nat} {n0 : Nat} {bf : ab_B} : decode (ab_code (zx σ n0 bf).1 8184) 218 = .ok (.iload_n 2, 1) := zd zm_8184 (by decide +kernel)
theorem d_8184_219 {σ : Nat → Nat} {n0 : Nat} {bf : ab_B} : decode (ab_code (zx σ n0 bf).1 8184) 219 = .ok (.iload_n 3, 1) := zd zm_8184 (by decide +kernel)
theorem d_8184_220 {σ : Nat → Nat} {n0 : Nat} {bf : ab_B} : decode (ab_code (zx σ n0 bf).1 8184) 220 = .ok (.invokevirtual 1204, 3) := zd zm_8184 (by decide +kernel)
theorem d_8184_223 {σ : Nat → Nat} {n0 : Nat} {bf : ab_B} : decode (ab_code (zx σ n0 bf).1 8184) 223 = .ok (.return_, 1) := zd zm_8184 (by decide +kernel)
def w_X9_laterGoal_150 (X : zs_X) (d : Nat) (q0 : Option Nat) (q1 : Int32) (q2 : Int32) (S : zs_T) (Q : zs_Q) : Prop :=
  (∃ b1, q0 = some b1 ∧ zs_K S b1 = some (.inl 8) ∧ zs_C X d 8192 [.ref b1, .int q1, .int q2] S (zs_kV (fun S4 => (Q (.returned none) S4)) Q))
theorem u_X9_laterGoal_150 {σ : Nat → Nat} {n0 : Nat} {bf : ab_B} {d : Nat} {q0 : Option Nat} {q1 : Int32} {q2 : Int32} {S : zs_T} {Q : zs_Q} (hB : zt_B bf) (h : w_X9_laterGoal_150 (zx σ n0 bf) d q0 q1 q2 S Q) : zs_U (zx σ n0 bf) d 8184 150 [] [.int q2, .int q1, va_rf q0] S Q := by
  unfold w_X9_laterGoal_150 at h
  obtain ⟨b1, e2, h⟩ := h
  refine zs_stk2 (zs_rfe e2) ?_
  obtain ⟨k3, h⟩ := h
  refine zc_8_1181 (x0 := q1) (x1 := q2) hB rfl k3 d_8184_150 (Nat.le_of_ble_eq_true rfl) h (fun S4 h => ?_)
  refine zu_goto (t := 223) d_8184_153 rfl ?_
  exact zu_vret d_8184_223 zr_8184 h
def w_X9_laterGoal (X : zs_X) (d : Nat) (p0 : Nat) (p1 : Int32) (p2 : Int32) (p3 : Int32) (p4 : Int32) (S : zs_T) (Q : zs_Q) : Prop :=
  (((p1.toInt < 114 ∨ 128 < p1.toInt → (zs_K S p0 = some (.inl 8) ∧ zs_C X d 8202 [.ref p0, .int p2, .int p3] S (zs_kV (fun S3 => (Q (.returned none) S3)) Q))) ∧ (p1.toInt = 114 → (zs_K S p0 = some (.inl 8) ∧ zs_C X d 8185 [.ref p0, .int p2, .int p3] S (zs_kV (fun S6 => (Q (.returned none) S6)) Q))) ∧ (p1.toInt = 115 → (zs_K S p0 = some (.inl 8) ∧ zs_C X d 8187 [.ref p0, .int p2, .int p3, .int p4] S (zs_kV (fun S9 => (Q (.returned none) S9)) Q))) ∧ (p1.toInt = 116 → (zs_K S p0 = some (.inl 8) ∧ zs_C X d 8188 [.ref p0, .int p2, .int p3, .int p4] S (zs_kV (fun S12 => (Q (.returned none) S12)) Q))) ∧ (p1.toInt = 117 → (zs_K S p0 = some (.inl 8) ∧ zs_C X d 8189 [.ref p0, .int p2] S (zs_kV (fun S15 => (Q (.returned none) S15)) Q))) ∧ (p1.toInt = 118 → (zs_K S p0 = some (.inl 8) ∧ zs_C X d 8190 [.ref p0, .int (0 : Int32)] S (zs_kV (fun S18 => (Q (.returned none) S18)) Q))) ∧ (p1.toInt = 119 → (zs_K S p0 = some (.inl 8) ∧ zs_C X d 8190 [.ref p0, .int (1 : Int32)] S (zs_kV (fun S21 => (Q (.returned none) S21)) Q))) ∧ (p1.toInt = 120 → (zs_K S p0 = some (.inl 8) ∧ zs_C X d 8191 [.ref p0] S (zs_kV (fun S24 => (Q (.returned none) S24)) Q))) ∧ (p1.toInt = 121 → (((¬ p3 = (1 : Int32) → (w_X9_laterGoal_150 X d (some p0) p2 (0 : Int32) S Q)) ∧ (¬ (¬ p3 = (1 : Int32)) → (w_X9_laterGoal_150 X d (some p0) p2 (1 : Int32) S Q))))) ∧ (p1.toInt = 122 → (zs_K S p0 = some (.inl 8) ∧ zs_C X d 8193 [.ref p0, .int p2] S (zs_kV (fun S28 => (Q (.returned none) S28)) Q))) ∧ (p1.toInt = 123 → (zs_K S p0 = some (.inl 8) ∧ zs_C X d 8194 [.ref p0, .int p2] S (zs_kV (fun S31 => (Q (.returned none) S31)) Q))) ∧ (p1.toInt = 124 → (zs_K S p0 = some (.inl 8) ∧ zs_C X d 8195 [.ref p0, .int p3] S (zs_kV (fun S34 => (Q (.returned none) S34)) Q))) ∧ (p1.toInt = 125 → (zs_K S p0 = some (.inl 8) ∧ zs_C X d 8197 [.ref p0, .int p2, .int p3, .int p4] S (zs_kV (fun S37 => (Q (.returned none) S37)) Q))) ∧ (p1.toInt = 126 → (zs_K S p0 = some (.inl 8) ∧ zs_C X d 8198 [.ref p0, .int p3] S (zs_kV (fun S40 => (Q (.returned none) S40)) Q))) ∧ (p1.toInt = 127 → (zs_K S p0 = some (.inl 8) ∧ zs_C X d 8199 [.ref p0, .int p2, .int p3] S (zs_kV (fun S43 => (Q (.returned none) S43)) Q))) ∧ (p1.toInt = 128 → (zs_K S p0 = some (.inl 8) ∧ zs_C X d 8201 [.ref p0, .int p2, .int p3] S (zs_kV (fun S46 => (Q (.returned none) S46)) Q)))))
theorem u_X9_laterGoal {σ : Nat → Nat} {n0 : Nat} {bf : ab_B} {d : Nat} {p0 : Nat} {p1 : Int32} {p2 : Int32} {p3 : Int32} {p4 : Int32} {S : zs_T} {Q : zs_Q} (hB : zt_B bf) (hd : 1 ≤ d) (h : w_X9_laterGoal (zx σ n0 bf) (d - 1) p0 p1 p2 p3 p4 S Q) : zs_C (zx σ n0 bf) d 8184 [.ref p0, .int p1, .int p2, .int p3, .int p4] S Q := by
  have hL : lv_args 0 [.ref p0, .int p1, .int p2, .int p3, .int p4] = [(0, .ref p0), (1, .int p1), (2, .int p2), (3, .int p3), (4, .int p4)] := rfl
  refine zs_C.of1 (hB.2 8184 (by decide) (by decide)) hd (by rw [hL]; exact zs_sub_self _ (by exact ⟨rfl, rfl, rfl, rfl, rfl, trivial⟩)) ?_
  rw [hL]
  clear hL
  unfold w_X9_laterGoal at h
  refine zu_iload_n d_8184_0 rfl ?_
  refine zu_tsw (td := 217) d_8184_1 (by decide) rfl (fun c1 => ?_) ⟨fun c1 => ⟨by decide, ?_⟩, fun c1 => ⟨by decide, ?_⟩, fun c1 => ⟨by decide, ?_⟩, fun c1 => ⟨by decide, ?_⟩, fun c1 => ⟨by decide, ?_⟩, fun c1 => ⟨by decide, ?_⟩, fun c1 => ⟨by decide, ?_⟩, fun c1 => ⟨by decide, ?_⟩, fun c1 => ⟨by decide, ?_⟩, fun c1 => ⟨by decide, ?_⟩, fun c1 => ⟨by decide, ?_⟩, fun c1 => ⟨by decide, ?_⟩, fun c1 => ⟨by decide, ?_⟩, fun c1 => ⟨by decide, ?_⟩, fun c1 => ⟨by decide, ?_⟩, trivial⟩
  · have h := h.1 c1
    refine zu_aload_n d_8184_217 rfl (zs_ra _) ?_
    refine zu_iload_n d_8184_218 rfl ?_
    refine zu_iload_n d_8184_219 rfl ?_
    obtain ⟨k2, h⟩ := h
    refine zc_8_1204 (x0 := p2) (x1 := p3) hB rfl k2 d_8184_220 (Nat.le_of_ble_eq_true rfl) h (fun S3 h => ?_)
    exact zu_vret d_8184_223 zr_8184 h
  · have h := h.2.1 c1
    show zs_U _ _ _ 76 _ _ _ _
    refine zu_aload_n d_8184_76 rfl (zs_ra _) ?_
    refine zu_iload_n d_8184_77 rfl ?_
    refine zu_iload_n d_8184_78 rfl ?_
    obtain ⟨k5, h⟩ := h
    refine zc_8_1163 (x0 := p2) (x1 := p3) hB rfl k5 d_8184_79 (Nat.le_of_ble_eq_true rfl) h (fun S6 h => ?_)
    refine zu_goto (t := 223) d_8184_82 rfl ?_
    exact zu_vret d_8184_223 zr_8184 h
  · have h := h.2.2.1 c1
    show zs_U _ _ _ 85 _ _ _ _
    refine zu_aload_n d_8184_85 rfl (zs_ra _) ?_
    refine zu_iload_n d_8184_86 rfl ?_
    refine zu_iload_n d_8184_87 rfl ?_
    refine zu_iload d_8184_88 rfl ?_
    obtain ⟨k8, h⟩ := h
    refine zc_8_1166 (x0 := p2) (x1 := p3) (x2 := p4) hB rfl k8 d_8184_90 (Nat.le_of_ble_eq_true rfl) h (fun S9 h => ?_)
    refine zu_goto (t := 223) d_8184_93 rfl ?_
    exact zu_vret d_8184_223 zr_8184 h
  · have h := h.2.2.2.1 c1
    show zs_U _ _ _ 96 _ _ _ _
    refine zu_aload_n d_8184_96 rfl (zs_ra _) ?_
    refine zu_iload_n d_8184_97 rfl ?_
    refine zu_iload_n d_8184_98 rfl ?_
    refine zu_iload d_8184_99 rfl ?_
    obtain ⟨k11, h⟩ := h
    refine zc_8_1169 (x0 := p2) (x1 := p3) (x2 := p4) hB rfl k11 d_8184_101 (Nat.le_of_ble_eq_true rfl) h (fun S12 h => ?_)
    refine zu_goto (t := 223) d_8184_104 rfl ?_
    exact zu_vret d_8184_223 zr_8184 h
  · have h := h.2.2.2.2.1 c1
    show zs_U _ _ _ 107 _ _ _ _
    refine zu_aload_n d_8184_107 rfl (zs_ra _) ?_
    refine zu_iload_n d_8184_108 rfl ?_
    obtain ⟨k14, h⟩ := h
    refine zc_8_1172 (x0 := p2) hB rfl k14 d_8184_109 (Nat.le_of_ble_eq_true rfl) h (fun S15 h => ?_)
    refine zu_goto (t := 223) d_8184_112 rfl ?_
    exact zu_vret d_8184_223 zr_8184 h
  · have h := h.2.2.2.2.2.1 c1
    show zs_U _ _ _ 115 _ _ _ _
    refine zu_aload_n d_8184_115 rfl (zs_ra _) ?_
    refine zu_iconst d_8184_116 zi_0 ?_
    obtain ⟨k17, h⟩ := h
    refine zc_8_1175 (x0 := (0 : Int32)) hB rfl k17 d_8184_117 (Nat.le_of_ble_eq_true rfl) h (fun S18 h => ?_)
    refine zu_goto (t := 223) d_8184_120 rfl ?_
    exact zu_vret d_8184_223 zr_8184 h
  · have h := h.2.2.2.2.2.2.1 c1
    show zs_U _ _ _ 123 _ _ _ _
    refine zu_aload_n d_8184_123 rfl (zs_ra _) ?_
    refine zu_iconst d_8184_124 zi_1 ?_
    obtain ⟨k20, h⟩ := h
    refine zc_8_1175 (x0 := (1 : Int32)) hB rfl k20 d_8184_125 (Nat.le_of_ble_eq_true rfl) h (fun S21 h => ?_)
    refine zu_goto (t := 223) d_8184_128 rfl ?_
    exact zu_vret d_8184_223 zr_8184 h
  · have h := h.2.2.2.2.2.2.2.1 c1
    show zs_U _ _ _ 131 _ _ _ _
    refine zu_aload_n d_8184_131 rfl (zs_ra _) ?_
    obtain ⟨k23, h⟩ := h
    refine zc_8_1178  hB rfl k23 d_8184_132 (Nat.le_of_ble_eq_true rfl) h (fun S24 h => ?_)
    refine zu_goto (t := 223) d_8184_135 rfl ?_
    exact zu_vret d_8184_223 zr_8184 h
  · have h := h.2.2.2.2.2.2.2.2.1 c1
    show zs_U _ _ _ 138 _ _ _ _
    refine zu_aload_n d_8184_138 rfl (zs_ra _) ?_
    refine zu_iload_n d_8184_139 rfl ?_
    refine zu_iload_n d_8184_140 rfl ?_
    refine zu_iconst d_8184_141 zi_1 ?_
    refine zu_cmpne (t := 149) d_8184_142 rfl (fun c26 => ?_) (fun c26 => ?_)
    · have h := h.1 c26
      refine zu_iconst d_8184_149 zi_0 ?_
      exact (u_X9_laterGoal_150 hB h).weak trivial
    · have h := h.2 c26
      refine zu_iconst d_8184_145 zi_1 ?_
      refine zu_goto (t := 150) d_8184_146 rfl ?_
      exact (u_X9_laterGoal_150 hB h).weak trivial
  · have h := h.2.2.2.2.2.2.2.2.2.1 c1
    show zs_U _ _ _ 156 _ _ _ _
    refine zu_aload_n d_8184_156 rfl (zs_ra _) ?_
    refine zu_iload_n d_8184_157 rfl ?_
    obtain ⟨k27, h⟩ := h
    refine zc_8_1183 (x0 := p2) hB rfl k27 d_8184_158 (Nat.le_of_ble_eq_true rfl) h (fun S28 h => ?_)
    refine zu_goto (t := 223) d_8184_161 rfl ?_
    exact zu_vret d_8184_223 zr_8184 h
  · have h := h.2.2.2.2.2.2.2.2.2.2.1 c1
    show zs_U _ _ _ 164 _ _ _ _
    refine zu_aload_n d_8184_164 rfl (zs_ra _) ?_
    refine zu_iload_n d_8184_165 rfl ?_
    obtain ⟨k30, h⟩ := h
    refine zc_8_1186 (x0 := p2) hB rfl k30 d_8184_166 (Nat.le_of_ble_eq_true rfl) h (fun S31 h => ?_)
    refine zu_goto (t := 223) d_8184_169 rfl ?_
    exact zu_vret d_8184_223 zr_8184 h
  · have h := h.2.2.2.2.2.2.2.2.2.2.2.1 c1
    show zs_U _ _ _ 172 _ _ _ _
    refine zu_aload_n d_8184_172 rfl (zs_ra _) ?_
    refine zu_iload_n d_8184_173 rfl ?_
    obtain ⟨k33, h⟩ := h
    refine zc_8_1189 (x0 := p3) hB rfl k33 d_8184_174 (Nat.le_of_ble_eq_true rfl) h (fun S34 h => ?_)
    refine zu_goto (t := 223) d_8184_177 rfl ?_
    exact zu_vret d_8184_223 zr_8184 h
  · have h := h.2.2.2.2.2.2.2.2.2.2.2.2.1 c1
    show zs_U _ _ _ 180 _ _ _ _
    refine zu_aload_n d_8184_180 rfl (zs_ra _) ?_
    refine zu_iload_n d_8184_181 rfl ?_
    refine zu_iload_n d_8184_182 rfl ?_
    refine zu_iload d_8184_183 rfl ?_
    obtain ⟨k36, h⟩ := h
    refine zc_8_1192 (x0 := p2) (x1 := p3) (x2 := p4) hB rfl k36 d_8184_185 (Nat.le_of_ble_eq_true rfl) h (fun S37 h => ?_)
    refine zu_goto (t := 223) d_8184_188 rfl ?_
    exact zu_vret d_8184_223 zr_8184 h
  · have h := h.2.2.2.2.2.2.2.2.2.2.2.2.2.1 c1
    show zs_U _ _ _ 191 _ _ _ _
    refine zu_aload_n d_8184_191 rfl (zs_ra _) ?_
    refine zu_iload_n d_8184_192 rfl ?_
    obtain ⟨k39, h⟩ := h
    refine zc_8_1195 (x0 := p3) hB rfl k39 d_8184_193 (Nat.le_of_ble_eq_true rfl) h (fun S40 h => ?_)
    refine zu_goto (t := 223) d_8184_196 rfl ?_
    exact zu_vret d_8184_223 zr_8184 h
  · have h := h.2.2.2.2.2.2.2.2.2.2.2.2.2.2.1 c1
    show zs_U _ _ _ 199 _ _ _ _
    refine zu_aload_n d_8184_199 rfl (zs_ra _) ?_
    refine zu_iload_n d_8184_200 rfl ?_
    refine zu_iload_n d_8184_201 rfl ?_
    obtain ⟨k42, h⟩ := h
    refine zc_8_1198 (x0 := p2) (x1 := p3) hB rfl k42 d_8184_202 (Nat.le_of_ble_eq_true rfl) h (fun S43 h => ?_)
    refine zu_goto (t := 223) d_8184_205 rfl ?_
    exact zu_vret d_8184_223 zr_8184 h
  · have h := h.2.2.2.2.2.2.2.2.2.2.2.2.2.2.2 c1
    show zs_U _ _ _ 208 _ _ _ _
    refine zu_aload_n d_8184_208 rfl (zs_ra _) ?_
    refine zu_iload_n d_8184_209 rfl ?_
    refine zu_iload_n d_8184_210 rfl ?_
    obtain ⟨k45, h⟩ := h
    refine zc_8_1201 (x0 := p2) (x1 := p3) hB rfl k45 d_8184_211 (Nat.le_of_ble_eq_true rfl) h (fun S46 h => ?_)
    refine zu_goto (t := 223) d_8184_214 rfl ?_
    exact zu_vret d_8184_223 zr_8184 h
/-! SchemaPascalModel.forFirst(II)V -/
theorem zm_8185 {σ : Nat → Nat} {n0 : Nat} {bf : ab_B} : ab_code (zx σ n0 bf).1 8185 = prog_17_method_177_code := rfl
theorem zq_8185 {σ : Nat → Nat} {n0 : Nat} {bf : ab_B} : ab_maxL (zx σ n0 bf).1 8185 = 4 := rfl
theorem zr_8185 {σ : Nat → Nat} {n0 : Nat} {bf : ab_B} : ab_ret (zx σ n0 bf).1 8185 = (Option.none : Option Jvm.ClassFile.FieldType) := rfl
theorem d_8185_0 {σ : Nat → Nat} {n0 : Nat} {bf : ab_B} : decode (ab_code (zx σ n0 bf).1 8185) 0 = .ok (.aload_n 0, 1) := zd zm_8185 (by decide +kernel)
theorem d_8185_1 {σ : Nat → Nat} {n0 : Nat} {bf : ab_B} : decode (ab_code (zx σ n0 bf).1 8185) 1 = .ok (.iload_n 1, 1) := zd zm_8185 (by decide +kernel)
theorem d_8185_2 {σ : Nat → Nat} {n0 : Nat} {bf : ab_B} : decode (ab_code (zx σ n0 bf).1 8185) 2 = .ok (.invokevirtual 980, 3) := zd zm_8185 (by decide +kernel)
theorem d_8185_5 {σ : Nat → Nat} {n0 : Nat} {bf : ab_B} : decode (ab_code (zx σ n0 bf).1 8185) 5 = .ok (.aload_n 0, 1) := zd zm_8185 (by decide +kernel)
theorem d_8185_6 {σ : Nat → Nat} {n0 : Nat} {bf : ab_B} : decode (ab_code (zx σ n0 bf).1 8185) 6 = .ok (.bipush 19, 2) := zd zm_8185 (by decide +kernel)
theorem d_8185_8 {σ : Nat → Nat} {n0 : Nat} {bf : ab_B} : decode (ab_code (zx σ n0 bf).1 8185) 8 = .ok (.invokevirtual 544, 3) := zd zm_8185 (by decide +kernel)
theorem d_8185_11 {σ : Nat → Nat} {n0 : Nat} {bf : ab_B} : decode (ab_code (zx σ n0 bf).1 8185) 11 = .ok (.istore_n 3, 1) := zd zm_8185 (by decide +kernel)
theorem d_8185_12 {σ : Nat → Nat} {n0 : Nat} {bf : ab_B} : decode (ab_code (zx σ n0 bf).1 8185) 12 = .ok (.iload_n 3, 1) := zd zm_8185 (by decide +kernel)
theorem d_8185_13 {σ : Nat → Nat} {n0 : Nat} {bf : ab_B} : decode (ab_code (zx σ n0 bf).1 8185) 13 = .ok (.ifCond .ne 18, 3) := zd zm_8185 (by decide +kernel)
theorem d_8185_16 {σ : Nat → Nat} {n0 : Nat} {bf : ab_B} : decode (ab_code (zx σ n0 bf).1 8185) 16 = .ok (.aload_n 0, 1) := zd zm_8185 (by decide +kernel)
theorem d_8185_17 {σ : Nat → Nat} {n0 : Nat} {bf : ab_B} : decode (ab_code (zx σ n0 bf).1 8185) 17 = .ok (.bipush 18, 2) := zd zm_8185 (by decide +kernel)
theorem d_8185_19 {σ : Nat → Nat} {n0 : Nat} {bf : ab_B} : decode (ab_code (zx σ n0 bf).1 8185) 19 = .ok (.invokevirtual 544, 3) := zd zm_8185 (by decide +kernel)
theorem d_8185_22 {σ : Nat → Nat} {n0 : Nat} {bf : ab_B} : decode (ab_code (zx σ n0 bf).1 8185) 22 = .ok (.ifCond .ne 9, 3) := zd zm_8185 (by decide +kernel)
theorem d_8185_25 {σ : Nat → Nat} {n0 : Nat} {bf : ab_B} : decode (ab_code (zx σ n0 bf).1 8185) 25 = .ok (.aload_n 0, 1) := zd zm_8185 (by decide +kernel)
theorem d_8185_26 {σ : Nat → Nat} {n0 : Nat} {bf : ab_B} : decode (ab_code (zx σ n0 bf).1 8185) 26 = .ok (.iconst 2, 1) := zd zm_8185 (by decide +kernel)
theorem d_8185_27 {σ : Nat → Nat} {n0 : Nat} {bf : ab_B} : decode (ab_code (zx σ n0 bf).1 8185) 27 = .ok (.invokevirtual 541, 3) := zd zm_8185 (by decide +kernel)
theorem d_8185_30 {σ : Nat → Nat} {n0 : Nat} {bf : ab_B} : decode (ab_code (zx σ n0 bf).1 8185) 30 = .ok (.return_, 1) := zd zm_8185 (by decide +kernel)
theorem d_8185_31 {σ : Nat → Nat} {n0 : Nat} {bf : ab_B} : decode (ab_code (zx σ n0 bf).1 8185) 31 = .ok (.aload_n 0, 1) := zd zm_8185 (by decide +kernel)
theorem d_8185_32 {σ : Nat → Nat} {n0 : Nat} {bf : ab_B} : decode (ab_code (zx σ n0 bf).1 8185) 32 = .ok (.invokevirtual 538, 3) := zd zm_8185 (by decide +kernel)
theorem d_8185_35 {σ : Nat → Nat} {n0 : Nat} {bf : ab_B} : decode (ab_code (zx σ n0 bf).1 8185) 35 = .ok (.aload_n 0, 1) := zd zm_8185 (by decide +kernel)
theorem d_8185_36 {σ : Nat → Nat} {n0 : Nat} {bf : ab_B} : decode (ab_code (zx σ n0 bf).1 8185) 36 = .ok (.bipush 115, 2) := zd zm_8185 (by decide +kernel)
theorem d_8185_38 {σ : Nat → Nat} {n0 : Nat} {bf : ab_B} : decode (ab_code (zx σ n0 bf).1 8185) 38 = .ok (.iload_n 1, 1) := zd zm_8185 (by decide +kernel)
theorem d_8185_39 {σ : Nat → Nat} {n0 : Nat} {bf : ab_B} : decode (ab_code (zx σ n0 bf).1 8185) 39 = .ok (.iload_n 2, 1) := zd zm_8185 (by decide +kernel)
theorem d_8185_40 {σ : Nat → Nat} {n0 : Nat} {bf : ab_B} : decode (ab_code (zx σ n0 bf).1 8185) 40 = .ok (.iload_n 3, 1) := zd zm_8185 (by decide +kernel)
theorem d_8185_41 {σ : Nat → Nat} {n0 : Nat} {bf : ab_B} : decode (ab_code (zx σ n0 bf).1 8185) 41 = .ok (.ifCond .eq 7, 3) := zd zm_8185 (by decide +kernel)
theorem d_8185_44 {σ : Nat → Nat} {n0 : Nat} {bf : ab_B} : decode (ab_code (zx σ n0 bf).1 8185) 44 = .ok (.iconst 1, 1) := zd zm_8185 (by decide +kernel)
theorem d_8185_45 {σ : Nat → Nat} {n0 : Nat} {bf : ab_B} : decode (ab_code (zx σ n0 bf).1 8185) 45 = .ok (.goto 4, 3) := zd zm_8185 (by decide +kernel)
theorem d_8185_48 {σ : Nat → Nat} {n0 : Nat} {bf : ab_B} : decode (ab_code (zx σ n0 bf).1 8185) 48 = .ok (.iconst 0, 1) := zd zm_8185 (by decide +kernel)
theorem d_8185_49 {σ : Nat → Nat} {n0 : Nat} {bf : ab_B} : decode (ab_code (zx σ n0 bf).1 8185) 49 = .ok (.invokevirtual 649, 3) := zd zm_8185 (by decide +kernel)
theorem d_8185_52 {σ : Nat → Nat} {n0 : Nat} {bf : ab_B} : decode (ab_code (zx σ n0 bf).1 8185) 52 = .ok (.aload_n 0, 1) := zd zm_8185 (by decide +kernel)
theorem d_8185_53 {σ : Nat → Nat} {n0 : Nat} {bf : ab_B} : decode (ab_code (zx σ n0 bf).1 8185) 53 = .ok (.iconst 2, 1) := zd zm_8185 (by decide +kernel)
theorem d_8185_54 {σ : Nat → Nat} {n0 : Nat} {bf : ab_B} : decode (ab_code (zx σ n0 bf).1 8185) 54 = .ok (.iconst 0, 1) := zd zm_8185 (by decide +kernel)
theorem d_8185_55 {σ : Nat → Nat} {n0 : Nat} {bf : ab_B} : decode (ab_code (zx σ n0 bf).1 8185) 55 = .ok (.iconst 0, 1) := zd zm_8185 (by decide +kernel)
theorem d_8185_56 {σ : Nat → Nat} {n0 : Nat} {bf : ab_B} : decode (ab_code (zx σ n0 bf).1 8185) 56 = .ok (.iconst 0, 1) := zd zm_8185 (by decide +kernel)
theorem d_8185_57 {σ : Nat → Nat} {n0 : Nat} {bf : ab_B} : decode (ab_code (zx σ n0 bf).1 8185) 57 = .ok (.invokevirtual 649, 3) := zd zm_8185 (by decide +kernel)
theorem d_8185_60 {σ : Nat → Nat} {n0 : Nat} {bf : ab_B} : decode (ab_code (zx σ n0 bf).1 8185) 60 = .ok (.return_, 1) := zd zm_8185 (by decide +kernel)
def w_X9_forFirst_30 (X : zs_X) (d : Nat)  (S : zs_T) (Q : zs_Q) : Prop :=
  (Q (.returned none) S)
theorem u_X9_forFirst_30 {σ : Nat → Nat} {n0 : Nat} {bf : ab_B} {d : Nat}  {S : zs_T} {Q : zs_Q} (hB : zt_B bf) (h : w_X9_forFirst_30 (zx σ n0 bf) d  S Q) : zs_U (zx σ n0 bf) d 8185 30 [] [] S Q := by
  unfold w_X9_forFirst_30 at h
  exact zu_vret d_8185_30 zr_8185 h
def w_X9_forFirst_49 (X : zs_X) (d : Nat) (p0 : Nat) (q0 : Option Nat) (q1 : Int32) (q2 : Int32) (q3 : Int32) (q4 : Int32) (S : zs_T) (Q : zs_Q) : Prop :=
  (∃ b1, q0 = some b1 ∧ zs_K S b1 = some (.inl 8) ∧ zs_C X d 8030 [.ref b1, .int q1, .int q2, .int q3, .int q4] S (zs_kV (fun S4 => (zs_K S4 p0 = some (.inl 8) ∧ zs_C X d 8030 [.ref p0, .int (2 : Int32), .int (0 : Int32), .int (0 : Int32), .int (0 : Int32)] S4 (zs_kV (fun S7 => (Q (.returned none) S7)) Q))) Q))
theorem u_X9_forFirst_49 {σ : Nat → Nat} {n0 : Nat} {bf : ab_B} {d : Nat} {p0 : Nat} {q0 : Option Nat} {q1 : Int32} {q2 : Int32} {q3 : Int32} {q4 : Int32} {S : zs_T} {Q : zs_Q} (hB : zt_B bf) (h : w_X9_forFirst_49 (zx σ n0 bf) d p0 q0 q1 q2 q3 q4 S Q) : zs_U (zx σ n0 bf) d 8185 49 [(0, .ref p0)] [.int q4, .int q3, .int q2, .int q1, va_rf q0] S Q := by
  unfold w_X9_forFirst_49 at h
  obtain ⟨b1, e2, h⟩ := h
  refine zs_stk4 (zs_rfe e2) ?_
  obtain ⟨k3, h⟩ := h
  refine zc_8_649 (x0 := q1) (x1 := q2) (x2 := q3) (x3 := q4) hB rfl k3 d_8185_49 (Nat.le_of_ble_eq_true rfl) h (fun S4 h => ?_)
  refine zu_aload_n d_8185_52 rfl (zs_ra _) ?_
  refine zu_iconst d_8185_53 zi_2 ?_
  refine zu_iconst d_8185_54 zi_0 ?_
  refine zu_iconst d_8185_55 zi_0 ?_
  refine zu_iconst d_8185_56 zi_0 ?_
  obtain ⟨k6, h⟩ := h
  refine zc_8_649 (x0 := (2 : Int32)) (x1 := (0 : Int32)) (x2 := (0 : Int32)) (x3 := (0 : Int32)) hB rfl k6 d_8185_57 (Nat.le_of_ble_eq_true rfl) h (fun S7 h => ?_)
  exact zu_vret d_8185_60 zr_8185 h
def w_X9_forFirst_31 (X : zs_X) (d : Nat) (p0 : Nat) (p1 : Int32) (p2 : Int32) (p3 : Int32) (S : zs_T) (Q : zs_Q) : Prop :=
  (zs_K S p0 = some (.inl 8) ∧ zs_C X d 8014 [.ref p0] S (zs_kV (fun S2 => (((p3 = 0 → (w_X9_forFirst_49 X d p0 (some p0) (115 : Int32) p1 p2 (0 : Int32) S2 Q)) ∧ (¬ (p3 = 0) → (w_X9_forFirst_49 X d p0 (some p0) (115 : Int32) p1 p2 (1 : Int32) S2 Q))))) Q))
theorem u_X9_forFirst_31 {σ : Nat → Nat} {n0 : Nat} {bf : ab_B} {d : Nat} {p0 : Nat} {p1 : Int32} {p2 : Int32} {p3 : Int32} {S : zs_T} {Q : zs_Q} (hB : zt_B bf) (h : w_X9_forFirst_31 (zx σ n0 bf) d p0 p1 p2 p3 S Q) : zs_U (zx σ n0 bf) d 8185 31 [(0, .ref p0), (1, .int p1), (2, .int p2), (3, .int p3)] [] S Q := by
  unfold w_X9_forFirst_31 at h
  refine zu_aload_n d_8185_31 rfl (zs_ra _) ?_
  obtain ⟨k1, h⟩ := h
  refine zc_8_538  hB rfl k1 d_8185_32 (Nat.le_of_ble_eq_true rfl) h (fun S2 h => ?_)
  refine zu_aload_n d_8185_35 rfl (zs_ra _) ?_
  refine zu_bipush d_8185_36 zj_115 ?_
  refine zu_iload_n d_8185_38 rfl ?_
  refine zu_iload_n d_8185_39 rfl ?_
  refine zu_iload_n d_8185_40 rfl ?_
  refine zu_ifeq (t := 48) d_8185_41 rfl (fun c4 => ?_) (fun c4 => ?_)
  · have h := h.1 c4
    refine zu_iconst d_8185_48 zi_0 ?_
    exact (u_X9_forFirst_49 hB h).weak ⟨rfl, trivial⟩
  · have h := h.2 c4
    refine zu_iconst d_8185_44 zi_1 ?_
    refine zu_goto (t := 49) d_8185_45 rfl ?_
    exact (u_X9_forFirst_49 hB h).weak ⟨rfl, trivial⟩
def w_X9_forFirst (X : zs_X) (d : Nat) (p0 : Nat) (p1 : Int32) (p2 : Int32) (S : zs_T) (Q : zs_Q) : Prop :=
  (zs_K S p0 = some (.inl 8) ∧ zs_C X d 8186 [.ref p0, .int p1] S (zs_kV (fun S2 => (zs_K S2 p0 = some (.inl 8) ∧ zs_C X d 8026 [.ref p0, .int (19 : Int32)] S2 (zs_kI (fun v6 S5 => (((¬ v6 = 0 → w_X9_forFirst_31 X d p0 p1 p2 v6 S5 Q) ∧ (¬ (¬ v6 = 0) → (zs_K S5 p0 = some (.inl 8) ∧ zs_C X d 8026 [.ref p0, .int (18 : Int32)] S5 (zs_kI (fun v10 S9 => (((¬ v10 = 0 → w_X9_forFirst_31 X d p0 p1 p2 v6 S9 Q) ∧ (¬ (¬ v10 = 0) → (zs_K S9 p0 = some (.inl 8) ∧ zs_C X d 8027 [.ref p0, .int (2 : Int32)] S9 (zs_kV (fun S13 => w_X9_forFirst_30 X d  S13 Q) Q)))))) Q)))))) Q))) Q))
theorem u_X9_forFirst {σ : Nat → Nat} {n0 : Nat} {bf : ab_B} {d : Nat} {p0 : Nat} {p1 : Int32} {p2 : Int32} {S : zs_T} {Q : zs_Q} (hB : zt_B bf) (hd : 1 ≤ d) (h : w_X9_forFirst (zx σ n0 bf) (d - 1) p0 p1 p2 S Q) : zs_C (zx σ n0 bf) d 8185 [.ref p0, .int p1, .int p2] S Q := by
  have hL : lv_args 0 [.ref p0, .int p1, .int p2] = [(0, .ref p0), (1, .int p1), (2, .int p2)] := rfl
  refine zs_C.of1 (hB.2 8185 (by decide) (by decide)) hd (by rw [hL]; exact zs_sub_self _ (by exact ⟨rfl, rfl, rfl, trivial⟩)) ?_
  rw [hL]
  clear hL
  unfold w_X9_forFirst at h
  refine zu_aload_n d_8185_0 rfl (zs_ra _) ?_
  refine zu_iload_n d_8185_1 rfl ?_
  obtain ⟨k1, h⟩ := h
  refine zc_8_980 (x0 := p1) hB rfl k1 d_8185_2 (Nat.le_of_ble_eq_true rfl) h (fun S2 h => ?_)
  refine zu_aload_n d_8185_5 rfl (zs_ra _) ?_
  refine zu_bipush d_8185_6 zj_19 ?_
  obtain ⟨k4, h⟩ := h
  refine zc_8_544 (x0 := (19 : Int32)) hB rfl k4 d_8185_8 (Nat.le_of_ble_eq_true rfl) h (fun v6 S5 h => ?_)
  refine zu_istore_n d_8185_11 (zs_lt zq_8185 rfl) ?_
  refine zu_iload_n d_8185_12 rfl ?_
  refine zu_ifne (t := 31) d_8185_13 rfl (fun c7 => ?_) (fun c7 => ?_)
  · have h := h.1 c7
    exact (u_X9_forFirst_31 hB h).weak ⟨rfl, rfl, rfl, rfl, trivial⟩
  · have h := h.2 c7
    refine zu_aload_n d_8185_16 rfl (zs_ra _) ?_
    refine zu_bipush d_8185_17 zj_18 ?_
    obtain ⟨k8, h⟩ := h
    refine zc_8_544 (x0 := (18 : Int32)) hB rfl k8 d_8185_19 (Nat.le_of_ble_eq_true rfl) h (fun v10 S9 h => ?_)
    refine zu_ifne (t := 31) d_8185_22 rfl (fun c11 => ?_) (fun c11 => ?_)
    · have h := h.1 c11
      exact (u_X9_forFirst_31 hB h).weak ⟨rfl, rfl, rfl, rfl, trivial⟩
    · have h := h.2 c11
      refine zu_aload_n d_8185_25 rfl (zs_ra _) ?_
      refine zu_iconst d_8185_26 zi_2 ?_
      obtain ⟨k12, h⟩ := h
      refine zc_8_541 (x0 := (2 : Int32)) hB rfl k12 d_8185_27 (Nat.le_of_ble_eq_true rfl) h (fun S13 h => ?_)
      exact (u_X9_forFirst_30 hB h).weak trivial
/-! SchemaPascalModel.forEnd(I)V -/
theorem zm_8186 {σ : Nat → Nat} {n0 : Nat} {bf : ab_B} : ab_code (zx σ n0 bf).1 8186 = prog_17_method_176_code := rfl
theorem zq_8186 {σ : Nat → Nat} {n0 : Nat} {bf : ab_B} : ab_maxL (zx σ n0 bf).1 8186 = 2 := rfl
theorem zr_8186 {σ : Nat → Nat} {n0 : Nat} {bf : ab_B} : ab_ret (zx σ n0 bf).1 8186 = (Option.none : Option Jvm.ClassFile.FieldType) := rfl
theorem d_8186_0 {σ : Nat → Nat} {n0 : Nat} {bf : ab_B} : decode (ab_code (zx σ n0 bf).1 8186) 0 = .ok (.aload_n 0, 1) := zd zm_8186 (by decide +kernel)
theorem d_8186_1 {σ : Nat → Nat} {n0 : Nat} {bf : ab_B} : decode (ab_code (zx σ n0 bf).1 8186) 1 = .ok (.invokevirtual 660, 3) := zd zm_8186 (by decide +kernel)
theorem d_8186_4 {σ : Nat → Nat} {n0 : Nat} {bf : ab_B} : decode (ab_code (zx σ n0 bf).1 8186) 4 = .ok (.aload_n 0, 1) := zd zm_8186 (by decide +kernel)
theorem d_8186_5 {σ : Nat → Nat} {n0 : Nat} {bf : ab_B} : decode (ab_code (zx σ n0 bf).1 8186) 5 = .ok (.getfield 444, 3) := zd zm_8186 (by decide +kernel)
theorem d_8186_8 {σ : Nat → Nat} {n0 : Nat} {bf : ab_B} : decode (ab_code (zx σ n0 bf).1 8186) 8 = .ok (.ifCond .ne 54, 3) := zd zm_8186 (by decide +kernel)
theorem d_8186_11 {σ : Nat → Nat} {n0 : Nat} {bf : ab_B} : decode (ab_code (zx σ n0 bf).1 8186) 11 = .ok (.aload_n 0, 1) := zd zm_8186 (by decide +kernel)
theorem d_8186_12 {σ : Nat → Nat} {n0 : Nat} {bf : ab_B} : decode (ab_code (zx σ n0 bf).1 8186) 12 = .ok (.aload_n 0, 1) := zd zm_8186 (by decide +kernel)
theorem d_8186_13 {σ : Nat → Nat} {n0 : Nat} {bf : ab_B} : decode (ab_code (zx σ n0 bf).1 8186) 13 = .ok (.getfield 191, 3) := zd zm_8186 (by decide +kernel)
theorem d_8186_16 {σ : Nat → Nat} {n0 : Nat} {bf : ab_B} : decode (ab_code (zx σ n0 bf).1 8186) 16 = .ok (.aload_n 0, 1) := zd zm_8186 (by decide +kernel)
theorem d_8186_17 {σ : Nat → Nat} {n0 : Nat} {bf : ab_B} : decode (ab_code (zx σ n0 bf).1 8186) 17 = .ok (.getfield 653, 3) := zd zm_8186 (by decide +kernel)
theorem d_8186_20 {σ : Nat → Nat} {n0 : Nat} {bf : ab_B} : decode (ab_code (zx σ n0 bf).1 8186) 20 = .ok (.iconst 1, 1) := zd zm_8186 (by decide +kernel)
theorem d_8186_21 {σ : Nat → Nat} {n0 : Nat} {bf : ab_B} : decode (ab_code (zx σ n0 bf).1 8186) 21 = .ok (.isub, 1) := zd zm_8186 (by decide +kernel)
theorem d_8186_22 {σ : Nat → Nat} {n0 : Nat} {bf : ab_B} : decode (ab_code (zx σ n0 bf).1 8186) 22 = .ok (.iaload, 1) := zd zm_8186 (by decide +kernel)
theorem d_8186_23 {σ : Nat → Nat} {n0 : Nat} {bf : ab_B} : decode (ab_code (zx σ n0 bf).1 8186) 23 = .ok (.invokevirtual 564, 3) := zd zm_8186 (by decide +kernel)
theorem d_8186_26 {σ : Nat → Nat} {n0 : Nat} {bf : ab_B} : decode (ab_code (zx σ n0 bf).1 8186) 26 = .ok (.ifCond .eq 31, 3) := zd zm_8186 (by decide +kernel)
theorem d_8186_29 {σ : Nat → Nat} {n0 : Nat} {bf : ab_B} : decode (ab_code (zx σ n0 bf).1 8186) 29 = .ok (.aload_n 0, 1) := zd zm_8186 (by decide +kernel)
theorem d_8186_30 {σ : Nat → Nat} {n0 : Nat} {bf : ab_B} : decode (ab_code (zx σ n0 bf).1 8186) 30 = .ok (.aload_n 0, 1) := zd zm_8186 (by decide +kernel)
theorem d_8186_31 {σ : Nat → Nat} {n0 : Nat} {bf : ab_B} : decode (ab_code (zx σ n0 bf).1 8186) 31 = .ok (.getfield 191, 3) := zd zm_8186 (by decide +kernel)
theorem d_8186_34 {σ : Nat → Nat} {n0 : Nat} {bf : ab_B} : decode (ab_code (zx σ n0 bf).1 8186) 34 = .ok (.aload_n 0, 1) := zd zm_8186 (by decide +kernel)
theorem d_8186_35 {σ : Nat → Nat} {n0 : Nat} {bf : ab_B} : decode (ab_code (zx σ n0 bf).1 8186) 35 = .ok (.getfield 653, 3) := zd zm_8186 (by decide +kernel)
theorem d_8186_38 {σ : Nat → Nat} {n0 : Nat} {bf : ab_B} : decode (ab_code (zx σ n0 bf).1 8186) 38 = .ok (.iconst 1, 1) := zd zm_8186 (by decide +kernel)
theorem d_8186_39 {σ : Nat → Nat} {n0 : Nat} {bf : ab_B} : decode (ab_code (zx σ n0 bf).1 8186) 39 = .ok (.isub, 1) := zd zm_8186 (by decide +kernel)
theorem d_8186_40 {σ : Nat → Nat} {n0 : Nat} {bf : ab_B} : decode (ab_code (zx σ n0 bf).1 8186) 40 = .ok (.iaload, 1) := zd zm_8186 (by decide +kernel)
theorem d_8186_41 {σ : Nat → Nat} {n0 : Nat} {bf : ab_B} : decode (ab_code (zx σ n0 bf).1 8186) 41 = .ok (.invokevirtual 561, 3) := zd zm_8186 (by decide +kernel)
theorem d_8186_44 {σ : Nat → Nat} {n0 : Nat} {bf : ab_B} : decode (ab_code (zx σ n0 bf).1 8186) 44 = .ok (.aload_n 0, 1) := zd zm_8186 (by decide +kernel)
theorem d_8186_45 {σ : Nat → Nat} {n0 : Nat} {bf : ab_B} : decode (ab_code (zx σ n0 bf).1 8186) 45 = .ok (.aload_n 0, 1) := zd zm_8186 (by decide +kernel)
theorem d_8186_46 {σ : Nat → Nat} {n0 : Nat} {bf : ab_B} : decode (ab_code (zx σ n0 bf).1 8186) 46 = .ok (.getfield 50, 3) := zd zm_8186 (by decide +kernel)
theorem d_8186_49 {σ : Nat → Nat} {n0 : Nat} {bf : ab_B} : decode (ab_code (zx σ n0 bf).1 8186) 49 = .ok (.iload_n 1, 1) := zd zm_8186 (by decide +kernel)
theorem d_8186_50 {σ : Nat → Nat} {n0 : Nat} {bf : ab_B} : decode (ab_code (zx σ n0 bf).1 8186) 50 = .ok (.iaload, 1) := zd zm_8186 (by decide +kernel)
theorem d_8186_51 {σ : Nat → Nat} {n0 : Nat} {bf : ab_B} : decode (ab_code (zx σ n0 bf).1 8186) 51 = .ok (.invokevirtual 561, 3) := zd zm_8186 (by decide +kernel)
theorem d_8186_54 {σ : Nat → Nat} {n0 : Nat} {bf : ab_B} : decode (ab_code (zx σ n0 bf).1 8186) 54 = .ok (.if_icmp .eq 8, 3) := zd zm_8186 (by decide +kernel)
theorem d_8186_57 {σ : Nat → Nat} {n0 : Nat} {bf : ab_B} : decode (ab_code (zx σ n0 bf).1 8186) 57 = .ok (.aload_n 0, 1) := zd zm_8186 (by decide +kernel)
theorem d_8186_58 {σ : Nat → Nat} {n0 : Nat} {bf : ab_B} : decode (ab_code (zx σ n0 bf).1 8186) 58 = .ok (.iconst 5, 1) := zd zm_8186 (by decide +kernel)
theorem d_8186_59 {σ : Nat → Nat} {n0 : Nat} {bf : ab_B} : decode (ab_code (zx σ n0 bf).1 8186) 59 = .ok (.invokevirtual 541, 3) := zd zm_8186 (by decide +kernel)
theorem d_8186_62 {σ : Nat → Nat} {n0 : Nat} {bf : ab_B} : decode (ab_code (zx σ n0 bf).1 8186) 62 = .ok (.aload_n 0, 1) := zd zm_8186 (by decide +kernel)
theorem d_8186_63 {σ : Nat → Nat} {n0 : Nat} {bf : ab_B} : decode (ab_code (zx σ n0 bf).1 8186) 63 = .ok (.dup, 1) := zd zm_8186 (by decide +kernel)
theorem d_8186_64 {σ : Nat → Nat} {n0 : Nat} {bf : ab_B} : decode (ab_code (zx σ n0 bf).1 8186) 64 = .ok (.getfield 653, 3) := zd zm_8186 (by decide +kernel)
theorem d_8186_67 {σ : Nat → Nat} {n0 : Nat} {bf : ab_B} : decode (ab_code (zx σ n0 bf).1 8186) 67 = .ok (.iconst 1, 1) := zd zm_8186 (by decide +kernel)
theorem d_8186_68 {σ : Nat → Nat} {n0 : Nat} {bf : ab_B} : decode (ab_code (zx σ n0 bf).1 8186) 68 = .ok (.isub, 1) := zd zm_8186 (by decide +kernel)
theorem d_8186_69 {σ : Nat → Nat} {n0 : Nat} {bf : ab_B} : decode (ab_code (zx σ n0 bf).1 8186) 69 = .ok (.putfield 653, 3) := zd zm_8186 (by decide +kernel)
theorem d_8186_72 {σ : Nat → Nat} {n0 : Nat} {bf : ab_B} : decode (ab_code (zx σ n0 bf).1 8186) 72 = .ok (.return_, 1) := zd zm_8186 (by decide +kernel)
def w_X9_forEnd_62 (X : zs_X) (d : Nat) (p0 : Nat) (S : zs_T) (Q : zs_Q) : Prop :=
  (zs_K S p0 = some (.inl 8) ∧ ab_n0 X.1 ≤ p0 ∧ ∀ S3, S3 = zs_sI S 8097 p0 ((zs_I S 8097 p0) - (1 : Int32)) → Q (.returned none) S3)
theorem u_X9_forEnd_62 {σ : Nat → Nat} {n0 : Nat} {bf : ab_B} {d : Nat} {p0 : Nat} {S : zs_T} {Q : zs_Q} (hB : zt_B bf) (h : w_X9_forEnd_62 (zx σ n0 bf) d p0 S Q) : zs_U (zx σ n0 bf) d 8186 62 [(0, .ref p0)] [] S Q := by
  unfold w_X9_forEnd_62 at h
  refine zu_aload_n d_8186_62 rfl (zs_ra _) ?_
  refine zu_dup d_8186_63 rfl ?_
  obtain ⟨k1, h⟩ := h
  refine zg_8_653 rfl d_8186_64 k1 ?_
  refine zu_iconst d_8186_67 zi_1 ?_
  refine zu_stk d_8186_68 rfl rfl ?_
  obtain ⟨k2, h⟩ := h
  refine zp_8_653 (v := ((zs_I S 8097 p0) - (1 : Int32))) rfl d_8186_69 k1 k2 ?_
  generalize e4 : zs_sI S 8097 p0 ((zs_I S 8097 p0) - (1 : Int32)) = S3
  have h := h S3 e4.symm
  have K5 : ∀ b, zs_K S3 b = zs_K S b := zs_Kt e4 (zs_KsI _ _ _ _) (fun _ => rfl)
  exact zu_vret d_8186_72 zr_8186 h
def w_X9_forEnd_57 (X : zs_X) (d : Nat) (p0 : Nat) (S : zs_T) (Q : zs_Q) : Prop :=
  (zs_K S p0 = some (.inl 8) ∧ zs_C X d 8027 [.ref p0, .int (5 : Int32)] S (zs_kV (fun S2 => w_X9_forEnd_62 X d p0 S2 Q) Q))
theorem u_X9_forEnd_57 {σ : Nat → Nat} {n0 : Nat} {bf : ab_B} {d : Nat} {p0 : Nat} {S : zs_T} {Q : zs_Q} (hB : zt_B bf) (h : w_X9_forEnd_57 (zx σ n0 bf) d p0 S Q) : zs_U (zx σ n0 bf) d 8186 57 [(0, .ref p0)] [] S Q := by
  unfold w_X9_forEnd_57 at h
  refine zu_aload_n d_8186_57 rfl (zs_ra _) ?_
  refine zu_iconst d_8186_58 zi_5 ?_
  obtain ⟨k1, h⟩ := h
  refine zc_8_541 (x0 := (5 : Int32)) hB rfl k1 d_8186_59 (Nat.le_of_ble_eq_true rfl) h (fun S2 h => ?_)
  exact (u_X9_forEnd_62 hB h).weak ⟨rfl, trivial⟩
def w_X9_forEnd (X : zs_X) (d : Nat) (p0 : Nat) (p1 : Int32) (S : zs_T) (Q : zs_Q) : Prop :=
  (zs_K S p0 = some (.inl 8) ∧ zs_C X d 8037 [.ref p0] S (zs_kV (fun S2 => (zs_K S2 p0 = some (.inl 8) ∧ ((¬ (zs_I S2 8010 p0) = 0 → w_X9_forEnd_62 X d p0 S2 Q) ∧ (¬ (¬ (zs_I S2 8010 p0) = 0) → (∃ b6, (zs_R S2 8091 p0) = some b6 ∧ zs_A S2 b6 0 ((zs_I S2 8097 p0) - (1 : Int32)) ∧ zs_C X d 8036 [.ref p0, .int (zs_i S2 b6 ((zs_I S2 8097 p0) - (1 : Int32)).toNatClampNeg)] S2 (zs_kI (fun v10 S9 => (((v10 = 0 → w_X9_forEnd_57 X d p0 S9 Q) ∧ (¬ (v10 = 0) → (zs_K S9 p0 = some (.inl 8) ∧ ∃ b13, (zs_R S9 8091 p0) = some b13 ∧ zs_A S9 b13 0 ((zs_I S9 8097 p0) - (1 : Int32)) ∧ zs_C X d 8042 [.ref p0, .int (zs_i S9 b13 ((zs_I S9 8097 p0) - (1 : Int32)).toNatClampNeg)] S9 (zs_kI (fun v17 S16 => (zs_K S16 p0 = some (.inl 8) ∧ ∃ b19, (zs_R S16 8026 p0) = some b19 ∧ zs_A S16 b19 0 p1 ∧ zs_C X d 8042 [.ref p0, .int (zs_i S16 b19 p1.toNatClampNeg)] S16 (zs_kI (fun v23 S22 => (((v17 = v23 → w_X9_forEnd_62 X d p0 S22 Q) ∧ (¬ (v17 = v23) → w_X9_forEnd_57 X d p0 S22 Q)))) Q))) Q)))))) Q)))))) Q))
theorem u_X9_forEnd {σ : Nat → Nat} {n0 : Nat} {bf : ab_B} {d : Nat} {p0 : Nat} {p1 : Int32} {S : zs_T} {Q : zs_Q} (hB : zt_B bf) (hd : 1 ≤ d) (h : w_X9_forEnd (zx σ n0 bf) (d - 1) p0 p1 S Q) : zs_C (zx σ n0 bf) d 8186 [.ref p0, .int p1] S Q := by
  have hL : lv_args 0 [.ref p0, .int p1] = [(0, .ref p0), (1, .int p1)] := rfl
  refine zs_C.of1 (hB.2 8186 (by decide) (by decide)) hd (by rw [hL]; exact zs_sub_self _ (by exact ⟨rfl, rfl, trivial⟩)) ?_
  rw [hL]
  clear hL
  unfold w_X9_forEnd at h
  refine zu_aload_n d_8186_0 rfl (zs_ra _) ?_
  obtain ⟨k1, h⟩ := h
  refine zc_8_660  hB rfl k1 d_8186_1 (Nat.le_of_ble_eq_true rfl) h (fun S2 h => ?_)
  refine zu_aload_n d_8186_4 rfl (zs_ra _) ?_
  obtain ⟨k4, h⟩ := h
  refine zg_8_444 rfl d_8186_5 k4 ?_
  refine zu_ifne (t := 62) d_8186_8 rfl (fun c5 => ?_) (fun c5 => ?_)
  · have h := h.1 c5
    exact (u_X9_forEnd_62 hB h).weak ⟨rfl, trivial⟩
  · have h := h.2 c5
    refine zu_aload_n d_8186_11 rfl (zs_ra _) ?_
    refine zu_aload_n d_8186_12 rfl (zs_ra _) ?_
    refine zg_8_191 rfl d_8186_13 k4 ?_
    refine zu_aload_n d_8186_16 rfl (zs_ra _) ?_
    refine zg_8_653 rfl d_8186_17 k4 ?_
    refine zu_iconst d_8186_20 zi_1 ?_
    refine zu_stk d_8186_21 rfl rfl ?_
    obtain ⟨b6, e7, h⟩ := h
    refine zs_stk1 (zs_rfe e7) ?_
    obtain ⟨k8, h⟩ := h
    refine zu_iald (k := 0) d_8186_22 rfl rfl k8 ?_
    refine zc_8_564 (x0 := (zs_i S2 b6 ((zs_I S2 8097 p0) - (1 : Int32)).toNatClampNeg)) hB rfl k4 d_8186_23 (Nat.le_of_ble_eq_true rfl) h (fun v10 S9 h => ?_)
    refine zu_ifeq (t := 57) d_8186_26 rfl (fun c11 => ?_) (fun c11 => ?_)
    · have h := h.1 c11
      exact (u_X9_forEnd_57 hB h).weak ⟨rfl, trivial⟩
    · have h := h.2 c11
      refine zu_aload_n d_8186_29 rfl (zs_ra _) ?_
      refine zu_aload_n d_8186_30 rfl (zs_ra _) ?_
      obtain ⟨k12, h⟩ := h
      refine zg_8_191 rfl d_8186_31 k12 ?_
      refine zu_aload_n d_8186_34 rfl (zs_ra _) ?_
      refine zg_8_653 rfl d_8186_35 k12 ?_
      refine zu_iconst d_8186_38 zi_1 ?_
      refine zu_stk d_8186_39 rfl rfl ?_
      obtain ⟨b13, e14, h⟩ := h
      refine zs_stk1 (zs_rfe e14) ?_
      obtain ⟨k15, h⟩ := h
      refine zu_iald (k := 0) d_8186_40 rfl rfl k15 ?_
      refine zc_8_561 (x0 := (zs_i S9 b13 ((zs_I S9 8097 p0) - (1 : Int32)).toNatClampNeg)) hB rfl k12 d_8186_41 (Nat.le_of_ble_eq_true rfl) h (fun v17 S16 h => ?_)
      refine zu_aload_n d_8186_44 rfl (zs_ra _) ?_
      refine zu_aload_n d_8186_45 rfl (zs_ra _) ?_
      obtain ⟨k18, h⟩ := h
      refine zg_8_50 rfl d_8186_46 k18 ?_
      refine zu_iload_n d_8186_49 rfl ?_
      obtain ⟨b19, e20, h⟩ := h
      refine zs_stk1 (zs_rfe e20) ?_
      obtain ⟨k21, h⟩ := h
      refine zu_iald (k := 0) d_8186_50 rfl rfl k21 ?_
      refine zc_8_561 (x0 := (zs_i S16 b19 p1.toNatClampNeg)) hB rfl k18 d_8186_51 (Nat.le_of_ble_eq_true rfl) h (fun v23 S22 h => ?_)
      refine zu_cmpeq (t := 62) d_8186_54 rfl (fun c24 => ?_) (fun c24 => ?_)
      · have h := h.1 c24
        exact (u_X9_forEnd_62 hB h).weak ⟨rfl, trivial⟩
      · have h := h.2 c24
        exact (u_X9_forEnd_57 hB h).weak ⟨rfl, trivial⟩
/-! SchemaPascalModel.forLast(III)V -/
theorem zm_8187 {σ : Nat → Nat} {n0 : Nat} {bf : ab_B} : ab_code (zx σ n0 bf).1 8187 = prog_17_method_178_code := rfl
theorem zq_8187 {σ : Nat → Nat} {n0 : Nat} {bf : ab_B} : ab_maxL (zx σ n0 bf).1 8187 = 5 := rfl
theorem zr_8187 {σ : Nat → Nat} {n0 : Nat} {bf : ab_B} : ab_ret (zx σ n0 bf).1 8187 = (Option.none : Option Jvm.ClassFile.FieldType) := rfl
theorem d_8187_0 {σ : Nat → Nat} {n0 : Nat} {bf : ab_B} : decode (ab_code (zx σ n0 bf).1 8187) 0 = .ok (.aload_n 0, 1) := zd zm_8187 (by decide +kernel)
theorem d_8187_1 {σ : Nat → Nat} {n0 : Nat} {bf : ab_B} : decode (ab_code (zx σ n0 bf).1 8187) 1 = .ok (.iload_n 1, 1) := zd zm_8187 (by decide +kernel)
theorem d_8187_2 {σ : Nat → Nat} {n0 : Nat} {bf : ab_B} : decode (ab_code (zx σ n0 bf).1 8187) 2 = .ok (.invokevirtual 980, 3) := zd zm_8187 (by decide +kernel)
theorem d_8187_5 {σ : Nat → Nat} {n0 : Nat} {bf : ab_B} : decode (ab_code (zx σ n0 bf).1 8187) 5 = .ok (.aload_n 0, 1) := zd zm_8187 (by decide +kernel)
theorem d_8187_6 {σ : Nat → Nat} {n0 : Nat} {bf : ab_B} : decode (ab_code (zx σ n0 bf).1 8187) 6 = .ok (.bipush 14, 2) := zd zm_8187 (by decide +kernel)
theorem d_8187_8 {σ : Nat → Nat} {n0 : Nat} {bf : ab_B} : decode (ab_code (zx σ n0 bf).1 8187) 8 = .ok (.invokevirtual 846, 3) := zd zm_8187 (by decide +kernel)
theorem d_8187_11 {σ : Nat → Nat} {n0 : Nat} {bf : ab_B} : decode (ab_code (zx σ n0 bf).1 8187) 11 = .ok (.aload_n 0, 1) := zd zm_8187 (by decide +kernel)
theorem d_8187_12 {σ : Nat → Nat} {n0 : Nat} {bf : ab_B} : decode (ab_code (zx σ n0 bf).1 8187) 12 = .ok (.bipush 86, 2) := zd zm_8187 (by decide +kernel)
theorem d_8187_14 {σ : Nat → Nat} {n0 : Nat} {bf : ab_B} : decode (ab_code (zx σ n0 bf).1 8187) 14 = .ok (.iconst 0, 1) := zd zm_8187 (by decide +kernel)
theorem d_8187_15 {σ : Nat → Nat} {n0 : Nat} {bf : ab_B} : decode (ab_code (zx σ n0 bf).1 8187) 15 = .ok (.aload_n 0, 1) := zd zm_8187 (by decide +kernel)
theorem d_8187_16 {σ : Nat → Nat} {n0 : Nat} {bf : ab_B} : decode (ab_code (zx σ n0 bf).1 8187) 16 = .ok (.getfield 53, 3) := zd zm_8187 (by decide +kernel)
theorem d_8187_19 {σ : Nat → Nat} {n0 : Nat} {bf : ab_B} : decode (ab_code (zx σ n0 bf).1 8187) 19 = .ok (.iload_n 1, 1) := zd zm_8187 (by decide +kernel)
theorem d_8187_20 {σ : Nat → Nat} {n0 : Nat} {bf : ab_B} : decode (ab_code (zx σ n0 bf).1 8187) 20 = .ok (.iaload, 1) := zd zm_8187 (by decide +kernel)
theorem d_8187_21 {σ : Nat → Nat} {n0 : Nat} {bf : ab_B} : decode (ab_code (zx σ n0 bf).1 8187) 21 = .ok (.ldc_w 725, 3) := zd zm_8187 (by decide +kernel)
theorem d_8187_24 {σ : Nat → Nat} {n0 : Nat} {bf : ab_B} : decode (ab_code (zx σ n0 bf).1 8187) 24 = .ok (.iand, 1) := zd zm_8187 (by decide +kernel)
theorem d_8187_25 {σ : Nat → Nat} {n0 : Nat} {bf : ab_B} : decode (ab_code (zx σ n0 bf).1 8187) 25 = .ok (.iconst 2, 1) := zd zm_8187 (by decide +kernel)
theorem d_8187_26 {σ : Nat → Nat} {n0 : Nat} {bf : ab_B} : decode (ab_code (zx σ n0 bf).1 8187) 26 = .ok (.imul, 1) := zd zm_8187 (by decide +kernel)
theorem d_8187_27 {σ : Nat → Nat} {n0 : Nat} {bf : ab_B} : decode (ab_code (zx σ n0 bf).1 8187) 27 = .ok (.iload_n 3, 1) := zd zm_8187 (by decide +kernel)
theorem d_8187_28 {σ : Nat → Nat} {n0 : Nat} {bf : ab_B} : decode (ab_code (zx σ n0 bf).1 8187) 28 = .ok (.iadd, 1) := zd zm_8187 (by decide +kernel)
theorem d_8187_29 {σ : Nat → Nat} {n0 : Nat} {bf : ab_B} : decode (ab_code (zx σ n0 bf).1 8187) 29 = .ok (.iload_n 2, 1) := zd zm_8187 (by decide +kernel)
theorem d_8187_30 {σ : Nat → Nat} {n0 : Nat} {bf : ab_B} : decode (ab_code (zx σ n0 bf).1 8187) 30 = .ok (.invokevirtual 656, 3) := zd zm_8187 (by decide +kernel)
theorem d_8187_33 {σ : Nat → Nat} {n0 : Nat} {bf : ab_B} : decode (ab_code (zx σ n0 bf).1 8187) 33 = .ok (.istore 4, 2) := zd zm_8187 (by decide +kernel)
theorem d_8187_35 {σ : Nat → Nat} {n0 : Nat} {bf : ab_B} : decode (ab_code (zx σ n0 bf).1 8187) 35 = .ok (.aload_n 0, 1) := zd zm_8187 (by decide +kernel)
theorem d_8187_36 {σ : Nat → Nat} {n0 : Nat} {bf : ab_B} : decode (ab_code (zx σ n0 bf).1 8187) 36 = .ok (.bipush 116, 2) := zd zm_8187 (by decide +kernel)
theorem d_8187_38 {σ : Nat → Nat} {n0 : Nat} {bf : ab_B} : decode (ab_code (zx σ n0 bf).1 8187) 38 = .ok (.iload 4, 2) := zd zm_8187 (by decide +kernel)
theorem d_8187_40 {σ : Nat → Nat} {n0 : Nat} {bf : ab_B} : decode (ab_code (zx σ n0 bf).1 8187) 40 = .ok (.aload_n 0, 1) := zd zm_8187 (by decide +kernel)
theorem d_8187_41 {σ : Nat → Nat} {n0 : Nat} {bf : ab_B} : decode (ab_code (zx σ n0 bf).1 8187) 41 = .ok (.getfield 556, 3) := zd zm_8187 (by decide +kernel)
theorem d_8187_44 {σ : Nat → Nat} {n0 : Nat} {bf : ab_B} : decode (ab_code (zx σ n0 bf).1 8187) 44 = .ok (.iload_n 2, 1) := zd zm_8187 (by decide +kernel)
theorem d_8187_45 {σ : Nat → Nat} {n0 : Nat} {bf : ab_B} : decode (ab_code (zx σ n0 bf).1 8187) 45 = .ok (.invokevirtual 649, 3) := zd zm_8187 (by decide +kernel)
theorem d_8187_48 {σ : Nat → Nat} {n0 : Nat} {bf : ab_B} : decode (ab_code (zx σ n0 bf).1 8187) 48 = .ok (.aload_n 0, 1) := zd zm_8187 (by decide +kernel)
theorem d_8187_49 {σ : Nat → Nat} {n0 : Nat} {bf : ab_B} : decode (ab_code (zx σ n0 bf).1 8187) 49 = .ok (.iload_n 2, 1) := zd zm_8187 (by decide +kernel)
theorem d_8187_50 {σ : Nat → Nat} {n0 : Nat} {bf : ab_B} : decode (ab_code (zx σ n0 bf).1 8187) 50 = .ok (.invokevirtual 959, 3) := zd zm_8187 (by decide +kernel)
theorem d_8187_53 {σ : Nat → Nat} {n0 : Nat} {bf : ab_B} : decode (ab_code (zx σ n0 bf).1 8187) 53 = .ok (.aload_n 0, 1) := zd zm_8187 (by decide +kernel)
theorem d_8187_54 {σ : Nat → Nat} {n0 : Nat} {bf : ab_B} : decode (ab_code (zx σ n0 bf).1 8187) 54 = .ok (.bipush 102, 2) := zd zm_8187 (by decide +kernel)
theorem d_8187_56 {σ : Nat → Nat} {n0 : Nat} {bf : ab_B} : decode (ab_code (zx σ n0 bf).1 8187) 56 = .ok (.iconst 0, 1) := zd zm_8187 (by decide +kernel)
theorem d_8187_57 {σ : Nat → Nat} {n0 : Nat} {bf : ab_B} : decode (ab_code (zx σ n0 bf).1 8187) 57 = .ok (.iconst 0, 1) := zd zm_8187 (by decide +kernel)
theorem d_8187_58 {σ : Nat → Nat} {n0 : Nat} {bf : ab_B} : decode (ab_code (zx σ n0 bf).1 8187) 58 = .ok (.iconst 0, 1) := zd zm_8187 (by decide +kernel)
theorem d_8187_59 {σ : Nat → Nat} {n0 : Nat} {bf : ab_B} : decode (ab_code (zx σ n0 bf).1 8187) 59 = .ok (.invokevirtual 649, 3) := zd zm_8187 (by decide +kernel)
theorem d_8187_62 {σ : Nat → Nat} {n0 : Nat} {bf : ab_B} : decode (ab_code (zx σ n0 bf).1 8187) 62 = .ok (.return_, 1) := zd zm_8187 (by decide +kernel)
def w_X9_forLast_62 (X : zs_X) (d : Nat)  (S : zs_T) (Q : zs_Q) : Prop :=
  (Q (.returned none) S)
theorem u_X9_forLast_62 {σ : Nat → Nat} {n0 : Nat} {bf : ab_B} {d : Nat}  {S : zs_T} {Q : zs_Q} (hB : zt_B bf) (h : w_X9_forLast_62 (zx σ n0 bf) d  S Q) : zs_U (zx σ n0 bf) d 8187 62 [] [] S Q := by
  unfold w_X9_forLast_62 at h
  exact zu_vret d_8187_62 zr_8187 h
def w_X9_forLast_35 (X : zs_X) (d : Nat) (p0 : Nat) (p2 : Int32) (p4 : Int32) (S : zs_T) (Q : zs_Q) : Prop :=
  (zs_K S p0 = some (.inl 8) ∧ zs_C X d 8030 [.ref p0, .int (116 : Int32), .int p4, .int (zs_I S 8040 p0), .int p2] S (zs_kV (fun S2 => (zs_K S2 p0 = some (.inl 8) ∧ zs_C X d 8168 [.ref p0, .int p2] S2 (zs_kV (fun S5 => (zs_K S5 p0 = some (.inl 8) ∧ zs_C X d 8030 [.ref p0, .int (102 : Int32), .int (0 : Int32), .int (0 : Int32), .int (0 : Int32)] S5 (zs_kV (fun S8 => w_X9_forLast_62 X d  S8 Q) Q))) Q))) Q))
theorem u_X9_forLast_35 {σ : Nat → Nat} {n0 : Nat} {bf : ab_B} {d : Nat} {p0 : Nat} {p2 : Int32} {p4 : Int32} {S : zs_T} {Q : zs_Q} (hB : zt_B bf) (h : w_X9_forLast_35 (zx σ n0 bf) d p0 p2 p4 S Q) : zs_U (zx σ n0 bf) d 8187 35 [(0, .ref p0), (2, .int p2), (4, .int p4)] [] S Q := by
  unfold w_X9_forLast_35 at h
  refine zu_aload_n d_8187_35 rfl (zs_ra _) ?_
  refine zu_bipush d_8187_36 zj_116 ?_
  refine zu_iload d_8187_38 rfl ?_
  refine zu_aload_n d_8187_40 rfl (zs_ra _) ?_
  obtain ⟨k1, h⟩ := h
  refine zg_8_556 rfl d_8187_41 k1 ?_
  refine zu_iload_n d_8187_44 rfl ?_
  refine zc_8_649 (x0 := (116 : Int32)) (x1 := p4) (x2 := (zs_I S 8040 p0)) (x3 := p2) hB rfl k1 d_8187_45 (Nat.le_of_ble_eq_true rfl) h (fun S2 h => ?_)
  refine zu_aload_n d_8187_48 rfl (zs_ra _) ?_
  refine zu_iload_n d_8187_49 rfl ?_
  obtain ⟨k4, h⟩ := h
  refine zc_8_959 (x0 := p2) hB rfl k4 d_8187_50 (Nat.le_of_ble_eq_true rfl) h (fun S5 h => ?_)
  refine zu_aload_n d_8187_53 rfl (zs_ra _) ?_
  refine zu_bipush d_8187_54 zj_102 ?_
  refine zu_iconst d_8187_56 zi_0 ?_
  refine zu_iconst d_8187_57 zi_0 ?_
  refine zu_iconst d_8187_58 zi_0 ?_
  obtain ⟨k7, h⟩ := h
  refine zc_8_649 (x0 := (102 : Int32)) (x1 := (0 : Int32)) (x2 := (0 : Int32)) (x3 := (0 : Int32)) hB rfl k7 d_8187_59 (Nat.le_of_ble_eq_true rfl) h (fun S8 h => ?_)
  exact (u_X9_forLast_62 hB h).weak trivial
def w_X9_forLast (X : zs_X) (d : Nat) (p0 : Nat) (p1 : Int32) (p2 : Int32) (p3 : Int32) (S : zs_T) (Q : zs_Q) : Prop :=
  (zs_K S p0 = some (.inl 8) ∧ zs_C X d 8186 [.ref p0, .int p1] S (zs_kV (fun S2 => (zs_K S2 p0 = some (.inl 8) ∧ zs_C X d 8025 [.ref p0, .int (14 : Int32)] S2 (zs_kV (fun S5 => (zs_K S5 p0 = some (.inl 8) ∧ ∃ b8, (zs_R S5 8027 p0) = some b8 ∧ zs_A S5 b8 0 p1 ∧ zs_C X d 8012 [.ref p0, .int (86 : Int32), .int (0 : Int32), .int ((((zs_i S5 b8 p1.toNatClampNeg) &&& (65535 : Int32)) * (2 : Int32)) + p3), .int p2] S5 (zs_kI (fun v12 S11 => (w_X9_forLast_35 X d p0 p2 v12 S11 Q)) Q))) Q))) Q))
theorem u_X9_forLast {σ : Nat → Nat} {n0 : Nat} {bf : ab_B} {d : Nat} {p0 : Nat} {p1 : Int32} {p2 : Int32} {p3 : Int32} {S : zs_T} {Q : zs_Q} (hB : zt_B bf) (hd : 1 ≤ d) (h : w_X9_forLast (zx σ n0 bf) (d - 1) p0 p1 p2 p3 S Q) : zs_C (zx σ n0 bf) d 8187 [.ref p0, .int p1, .int p2, .int p3] S Q := by
  have hL : lv_args 0 [.ref p0, .int p1, .int p2, .int p3] = [(0, .ref p0), (1, .int p1), (2, .int p2), (3, .int p3)] := rfl
  refine zs_C.of1 (hB.2 8187 (by decide) (by decide)) hd (by rw [hL]; exact zs_sub_self _ (by exact ⟨rfl, rfl, rfl, rfl, trivial⟩)) ?_
  rw [hL]
  clear hL
  unfold w_X9_forLast at h
  refine zu_aload_n d_8187_0 rfl (zs_ra _) ?_
  refine zu_iload_n d_8187_1 rfl ?_
  obtain ⟨k1, h⟩ := h
  refine zc_8_980 (x0 := p1) hB rfl k1 d_8187_2 (Nat.le_of_ble_eq_true rfl) h (fun S2 h => ?_)
  refine zu_aload_n d_8187_5 rfl (zs_ra _) ?_
  refine zu_bipush d_8187_6 zj_14 ?_
  obtain ⟨k4, h⟩ := h
  refine zc_8_846 (x0 := (14 : Int32)) hB rfl k4 d_8187_8 (Nat.le_of_ble_eq_true rfl) h (fun S5 h => ?_)
  refine zu_aload_n d_8187_11 rfl (zs_ra _) ?_
  refine zu_bipush d_8187_12 zj_86 ?_
  refine zu_iconst d_8187_14 zi_0 ?_
  refine zu_aload_n d_8187_15 rfl (zs_ra _) ?_
  obtain ⟨k7, h⟩ := h
  refine zg_8_53 rfl d_8187_16 k7 ?_
  refine zu_iload_n d_8187_19 rfl ?_
  obtain ⟨b8, e9, h⟩ := h
  refine zs_stk1 (zs_rfe e9) ?_
  obtain ⟨k10, h⟩ := h
  refine zu_iald (k := 0) d_8187_20 rfl rfl k10 ?_
  refine zlw_8_725 rfl d_8187_21 ?_
  refine zu_stk d_8187_24 rfl rfl ?_
  refine zu_iconst d_8187_25 zi_2 ?_
  refine zu_stk d_8187_26 rfl rfl ?_
  refine zu_iload_n d_8187_27 rfl ?_
  refine zu_stk d_8187_28 rfl rfl ?_
  refine zu_iload_n d_8187_29 rfl ?_
  refine zc_8_656 (x0 := (86 : Int32)) (x1 := (0 : Int32)) (x2 := ((((zs_i S5 b8 p1.toNatClampNeg) &&& (65535 : Int32)) * (2 : Int32)) + p3)) (x3 := p2) hB rfl k7 d_8187_30 (Nat.le_of_ble_eq_true rfl) h (fun v12 S11 h => ?_)
  refine zu_istore d_8187_33 (zs_lt zq_8187 rfl) ?_
  exact (u_X9_forLast_35 hB h).weak ⟨rfl, rfl, rfl, trivial⟩
/-! SchemaPascalModel.forDone(III)V -/
theorem zm_8188 {σ : Nat → Nat} {n0 : Nat} {bf : ab_B} : ab_code (zx σ n0 bf).1 8188 = prog_17_method_179_code := rfl
theorem zq_8188 {σ : Nat → Nat} {n0 : Nat} {bf : ab_B} : ab_maxL (zx σ n0 bf).1 8188 = 5 := rfl
theorem zr_8188 {σ : Nat → Nat} {n0 : Nat} {bf : ab_B} : ab_ret (zx σ n0 bf).1 8188 = (Option.none : Option Jvm.ClassFile.FieldType) := rfl
theorem d_8188_0 {σ : Nat → Nat} {n0 : Nat} {bf : ab_B} : decode (ab_code (zx σ n0 bf).1 8188) 0 = .ok (.aload_n 0, 1) := zd zm_8188 (by decide +kernel)
theorem d_8188_1 {σ : Nat → Nat} {n0 : Nat} {bf : ab_B} : decode (ab_code (zx σ n0 bf).1 8188) 1 = .ok (.bipush 87, 2) := zd zm_8188 (by decide +kernel)
theorem d_8188_3 {σ : Nat → Nat} {n0 : Nat} {bf : ab_B} : decode (ab_code (zx σ n0 bf).1 8188) 3 = .ok (.iload_n 2, 1) := zd zm_8188 (by decide +kernel)
theorem d_8188_4 {σ : Nat → Nat} {n0 : Nat} {bf : ab_B} : decode (ab_code (zx σ n0 bf).1 8188) 4 = .ok (.aload_n 0, 1) := zd zm_8188 (by decide +kernel)
theorem d_8188_5 {σ : Nat → Nat} {n0 : Nat} {bf : ab_B} : decode (ab_code (zx σ n0 bf).1 8188) 5 = .ok (.getfield 78, 3) := zd zm_8188 (by decide +kernel)
theorem d_8188_8 {σ : Nat → Nat} {n0 : Nat} {bf : ab_B} : decode (ab_code (zx σ n0 bf).1 8188) 8 = .ok (.iload_n 1, 1) := zd zm_8188 (by decide +kernel)
theorem d_8188_9 {σ : Nat → Nat} {n0 : Nat} {bf : ab_B} : decode (ab_code (zx σ n0 bf).1 8188) 9 = .ok (.iaload, 1) := zd zm_8188 (by decide +kernel)
theorem d_8188_10 {σ : Nat → Nat} {n0 : Nat} {bf : ab_B} : decode (ab_code (zx σ n0 bf).1 8188) 10 = .ok (.iload_n 3, 1) := zd zm_8188 (by decide +kernel)
theorem d_8188_11 {σ : Nat → Nat} {n0 : Nat} {bf : ab_B} : decode (ab_code (zx σ n0 bf).1 8188) 11 = .ok (.invokevirtual 656, 3) := zd zm_8188 (by decide +kernel)
theorem d_8188_14 {σ : Nat → Nat} {n0 : Nat} {bf : ab_B} : decode (ab_code (zx σ n0 bf).1 8188) 14 = .ok (.istore 4, 2) := zd zm_8188 (by decide +kernel)
theorem d_8188_16 {σ : Nat → Nat} {n0 : Nat} {bf : ab_B} : decode (ab_code (zx σ n0 bf).1 8188) 16 = .ok (.aload_n 0, 1) := zd zm_8188 (by decide +kernel)
theorem d_8188_17 {σ : Nat → Nat} {n0 : Nat} {bf : ab_B} : decode (ab_code (zx σ n0 bf).1 8188) 17 = .ok (.getfield 75, 3) := zd zm_8188 (by decide +kernel)
theorem d_8188_20 {σ : Nat → Nat} {n0 : Nat} {bf : ab_B} : decode (ab_code (zx σ n0 bf).1 8188) 20 = .ok (.iload_n 1, 1) := zd zm_8188 (by decide +kernel)
theorem d_8188_21 {σ : Nat → Nat} {n0 : Nat} {bf : ab_B} : decode (ab_code (zx σ n0 bf).1 8188) 21 = .ok (.aload_n 0, 1) := zd zm_8188 (by decide +kernel)
theorem d_8188_22 {σ : Nat → Nat} {n0 : Nat} {bf : ab_B} : decode (ab_code (zx σ n0 bf).1 8188) 22 = .ok (.getfield 556, 3) := zd zm_8188 (by decide +kernel)
theorem d_8188_25 {σ : Nat → Nat} {n0 : Nat} {bf : ab_B} : decode (ab_code (zx σ n0 bf).1 8188) 25 = .ok (.iastore, 1) := zd zm_8188 (by decide +kernel)
theorem d_8188_26 {σ : Nat → Nat} {n0 : Nat} {bf : ab_B} : decode (ab_code (zx σ n0 bf).1 8188) 26 = .ok (.return_, 1) := zd zm_8188 (by decide +kernel)
def w_X9_forDone_26 (X : zs_X) (d : Nat)  (S : zs_T) (Q : zs_Q) : Prop :=
  (Q (.returned none) S)
theorem u_X9_forDone_26 {σ : Nat → Nat} {n0 : Nat} {bf : ab_B} {d : Nat}  {S : zs_T} {Q : zs_Q} (hB : zt_B bf) (h : w_X9_forDone_26 (zx σ n0 bf) d  S Q) : zs_U (zx σ n0 bf) d 8188 26 [] [] S Q := by
  unfold w_X9_forDone_26 at h
  exact zu_vret d_8188_26 zr_8188 h
def w_X9_forDone (X : zs_X) (d : Nat) (p0 : Nat) (p1 : Int32) (p2 : Int32) (p3 : Int32) (S : zs_T) (Q : zs_Q) : Prop :=
  (zs_K S p0 = some (.inl 8) ∧ ∃ b2, (zs_R S 8038 p0) = some b2 ∧ zs_A S b2 0 p1 ∧ zs_C X d 8012 [.ref p0, .int (87 : Int32), .int p2, .int (zs_i S b2 p1.toNatClampNeg), .int p3] S (zs_kI (fun v6 S5 => (zs_K S5 p0 = some (.inl 8) ∧ ∃ b8, (zs_R S5 8037 p0) = some b8 ∧ zs_A S5 b8 0 p1 ∧ ab_n0 X.1 ≤ b8 ∧ ∀ S12, S12 = zs_si S5 b8 p1.toNatClampNeg (zs_I S5 8040 p0) → w_X9_forDone_26 X d  S12 Q)) Q))
theorem u_X9_forDone {σ : Nat → Nat} {n0 : Nat} {bf : ab_B} {d : Nat} {p0 : Nat} {p1 : Int32} {p2 : Int32} {p3 : Int32} {S : zs_T} {Q : zs_Q} (hB : zt_B bf) (hd : 1 ≤ d) (h : w_X9_forDone (zx σ n0 bf) (d - 1) p0 p1 p2 p3 S Q) : zs_C (zx σ n0 bf) d 8188 [.ref p0, .int p1, .int p2, .int p3] S Q := by
  have hL : lv_args 0 [.ref p0, .int p1, .int p2, .int p3] = [(0, .ref p0), (1, .int p1), (2, .int p2), (3, .int p3)] := rfl
  refine zs_C.of1 (hB.2 8188 (by decide) (by decide)) hd (by rw [hL]; exact zs_sub_self _ (by exact ⟨rfl, rfl, rfl, rfl, trivial⟩)) ?_
  rw [hL]
  clear hL
  unfold w_X9_forDone at h
  refine zu_aload_n d_8188_0 rfl (zs_ra _) ?_
  refine zu_bipush d_8188_1 zj_87 ?_
  refine zu_iload_n d_8188_3 rfl ?_
  refine zu_aload_n d_8188_4 rfl (zs_ra _) ?_
  obtain ⟨k1, h⟩ := h
  refine zg_8_78 rfl d_8188_5 k1 ?_
  refine zu_iload_n d_8188_8 rfl ?_
  obtain ⟨b2, e3, h⟩ := h
  refine zs_stk1 (zs_rfe e3) ?_
  obtain ⟨k4, h⟩ := h
  refine zu_iald (k := 0) d_8188_9 rfl rfl k4 ?_
  refine zu_iload_n d_8188_10 rfl ?_
  refine zc_8_656 (x0 := (87 : Int32)) (x1 := p2) (x2 := (zs_i S b2 p1.toNatClampNeg)) (x3 := p3) hB rfl k1 d_8188_11 (Nat.le_of_ble_eq_true rfl) h (fun v6 S5 h => ?_)
  refine zu_istore d_8188_14 (zs_lt zq_8188 rfl) ?_
  refine zu_aload_n d_8188_16 rfl (zs_ra _) ?_
  obtain ⟨k7, h⟩ := h
  refine zg_8_75 rfl d_8188_17 k7 ?_
  refine zu_iload_n d_8188_20 rfl ?_
  refine zu_aload_n d_8188_21 rfl (zs_ra _) ?_
  refine zg_8_556 rfl d_8188_22 k7 ?_
  obtain ⟨b8, e9, h⟩ := h
  refine zs_stk2 (zs_rfe e9) ?_
  obtain ⟨k10, h⟩ := h
  obtain ⟨k11, h⟩ := h
  refine zu_iast (k := 0) d_8188_25 rfl rfl k11 k10 ?_
  generalize e13 : zs_si S5 b8 p1.toNatClampNeg (zs_I S5 8040 p0) = S12
  have h := h S12 e13.symm
  have K14 : ∀ b, zs_K S12 b = zs_K S5 b := zs_Kt e13 (zs_Ksi _ _ _ _) (fun _ => rfl)
  exact (u_X9_forDone_26 hB h).weak trivial
/-! SchemaPascalModel.caseOf(I)V -/
theorem zm_8189 {σ : Nat → Nat} {n0 : Nat} {bf : ab_B} : ab_code (zx σ n0 bf).1 8189 = prog_17_method_180_code := rfl
theorem zq_8189 {σ : Nat → Nat} {n0 : Nat} {bf : ab_B} : ab_maxL (zx σ n0 bf).1 8189 = 2 := rfl
theorem zr_8189 {σ : Nat → Nat} {n0 : Nat} {bf : ab_B} : ab_ret (zx σ n0 bf).1 8189 = (Option.none : Option Jvm.ClassFile.FieldType) := rfl
theorem d_8189_0 {σ : Nat → Nat} {n0 : Nat} {bf : ab_B} : decode (ab_code (zx σ n0 bf).1 8189) 0 = .ok (.aload_n 0, 1) := zd zm_8189 (by decide +kernel)
theorem d_8189_1 {σ : Nat → Nat} {n0 : Nat} {bf : ab_B} : decode (ab_code (zx σ n0 bf).1 8189) 1 = .ok (.invokevirtual 660, 3) := zd zm_8189 (by decide +kernel)
theorem d_8189_4 {σ : Nat → Nat} {n0 : Nat} {bf : ab_B} : decode (ab_code (zx σ n0 bf).1 8189) 4 = .ok (.aload_n 0, 1) := zd zm_8189 (by decide +kernel)
theorem d_8189_5 {σ : Nat → Nat} {n0 : Nat} {bf : ab_B} : decode (ab_code (zx σ n0 bf).1 8189) 5 = .ok (.getfield 444, 3) := zd zm_8189 (by decide +kernel)
theorem d_8189_8 {σ : Nat → Nat} {n0 : Nat} {bf : ab_B} : decode (ab_code (zx σ n0 bf).1 8189) 8 = .ok (.ifCond .ne 26, 3) := zd zm_8189 (by decide +kernel)
theorem d_8189_11 {σ : Nat → Nat} {n0 : Nat} {bf : ab_B} : decode (ab_code (zx σ n0 bf).1 8189) 11 = .ok (.aload_n 0, 1) := zd zm_8189 (by decide +kernel)
theorem d_8189_12 {σ : Nat → Nat} {n0 : Nat} {bf : ab_B} : decode (ab_code (zx σ n0 bf).1 8189) 12 = .ok (.aload_n 0, 1) := zd zm_8189 (by decide +kernel)
theorem d_8189_13 {σ : Nat → Nat} {n0 : Nat} {bf : ab_B} : decode (ab_code (zx σ n0 bf).1 8189) 13 = .ok (.getfield 191, 3) := zd zm_8189 (by decide +kernel)
theorem d_8189_16 {σ : Nat → Nat} {n0 : Nat} {bf : ab_B} : decode (ab_code (zx σ n0 bf).1 8189) 16 = .ok (.aload_n 0, 1) := zd zm_8189 (by decide +kernel)
theorem d_8189_17 {σ : Nat → Nat} {n0 : Nat} {bf : ab_B} : decode (ab_code (zx σ n0 bf).1 8189) 17 = .ok (.getfield 653, 3) := zd zm_8189 (by decide +kernel)
theorem d_8189_20 {σ : Nat → Nat} {n0 : Nat} {bf : ab_B} : decode (ab_code (zx σ n0 bf).1 8189) 20 = .ok (.iconst 1, 1) := zd zm_8189 (by decide +kernel)
theorem d_8189_21 {σ : Nat → Nat} {n0 : Nat} {bf : ab_B} : decode (ab_code (zx σ n0 bf).1 8189) 21 = .ok (.isub, 1) := zd zm_8189 (by decide +kernel)
theorem d_8189_22 {σ : Nat → Nat} {n0 : Nat} {bf : ab_B} : decode (ab_code (zx σ n0 bf).1 8189) 22 = .ok (.iaload, 1) := zd zm_8189 (by decide +kernel)
theorem d_8189_23 {σ : Nat → Nat} {n0 : Nat} {bf : ab_B} : decode (ab_code (zx σ n0 bf).1 8189) 23 = .ok (.invokevirtual 564, 3) := zd zm_8189 (by decide +kernel)
theorem d_8189_26 {σ : Nat → Nat} {n0 : Nat} {bf : ab_B} : decode (ab_code (zx σ n0 bf).1 8189) 26 = .ok (.ifCond .ne 8, 3) := zd zm_8189 (by decide +kernel)
theorem d_8189_29 {σ : Nat → Nat} {n0 : Nat} {bf : ab_B} : decode (ab_code (zx σ n0 bf).1 8189) 29 = .ok (.aload_n 0, 1) := zd zm_8189 (by decide +kernel)
theorem d_8189_30 {σ : Nat → Nat} {n0 : Nat} {bf : ab_B} : decode (ab_code (zx σ n0 bf).1 8189) 30 = .ok (.iconst 5, 1) := zd zm_8189 (by decide +kernel)
theorem d_8189_31 {σ : Nat → Nat} {n0 : Nat} {bf : ab_B} : decode (ab_code (zx σ n0 bf).1 8189) 31 = .ok (.invokevirtual 541, 3) := zd zm_8189 (by decide +kernel)
theorem d_8189_34 {σ : Nat → Nat} {n0 : Nat} {bf : ab_B} : decode (ab_code (zx σ n0 bf).1 8189) 34 = .ok (.aload_n 0, 1) := zd zm_8189 (by decide +kernel)
theorem d_8189_35 {σ : Nat → Nat} {n0 : Nat} {bf : ab_B} : decode (ab_code (zx σ n0 bf).1 8189) 35 = .ok (.getfield 444, 3) := zd zm_8189 (by decide +kernel)
theorem d_8189_38 {σ : Nat → Nat} {n0 : Nat} {bf : ab_B} : decode (ab_code (zx σ n0 bf).1 8189) 38 = .ok (.ifCond .le 4, 3) := zd zm_8189 (by decide +kernel)
theorem d_8189_41 {σ : Nat → Nat} {n0 : Nat} {bf : ab_B} : decode (ab_code (zx σ n0 bf).1 8189) 41 = .ok (.return_, 1) := zd zm_8189 (by decide +kernel)
theorem d_8189_42 {σ : Nat → Nat} {n0 : Nat} {bf : ab_B} : decode (ab_code (zx σ n0 bf).1 8189) 42 = .ok (.aload_n 0, 1) := zd zm_8189 (by decide +kernel)
theorem d_8189_43 {σ : Nat → Nat} {n0 : Nat} {bf : ab_B} : decode (ab_code (zx σ n0 bf).1 8189) 43 = .ok (.getfield 314, 3) := zd zm_8189 (by decide +kernel)
theorem d_8189_46 {σ : Nat → Nat} {n0 : Nat} {bf : ab_B} : decode (ab_code (zx σ n0 bf).1 8189) 46 = .ok (.aload_n 0, 1) := zd zm_8189 (by decide +kernel)
theorem d_8189_47 {σ : Nat → Nat} {n0 : Nat} {bf : ab_B} : decode (ab_code (zx σ n0 bf).1 8189) 47 = .ok (.getfield 983, 3) := zd zm_8189 (by decide +kernel)
theorem d_8189_50 {σ : Nat → Nat} {n0 : Nat} {bf : ab_B} : decode (ab_code (zx σ n0 bf).1 8189) 50 = .ok (.aload_n 0, 1) := zd zm_8189 (by decide +kernel)
theorem d_8189_51 {σ : Nat → Nat} {n0 : Nat} {bf : ab_B} : decode (ab_code (zx σ n0 bf).1 8189) 51 = .ok (.aload_n 0, 1) := zd zm_8189 (by decide +kernel)
theorem d_8189_52 {σ : Nat → Nat} {n0 : Nat} {bf : ab_B} : decode (ab_code (zx σ n0 bf).1 8189) 52 = .ok (.getfield 191, 3) := zd zm_8189 (by decide +kernel)
theorem d_8189_55 {σ : Nat → Nat} {n0 : Nat} {bf : ab_B} : decode (ab_code (zx σ n0 bf).1 8189) 55 = .ok (.aload_n 0, 1) := zd zm_8189 (by decide +kernel)
theorem d_8189_56 {σ : Nat → Nat} {n0 : Nat} {bf : ab_B} : decode (ab_code (zx σ n0 bf).1 8189) 56 = .ok (.getfield 653, 3) := zd zm_8189 (by decide +kernel)
theorem d_8189_59 {σ : Nat → Nat} {n0 : Nat} {bf : ab_B} : decode (ab_code (zx σ n0 bf).1 8189) 59 = .ok (.iconst 1, 1) := zd zm_8189 (by decide +kernel)
theorem d_8189_60 {σ : Nat → Nat} {n0 : Nat} {bf : ab_B} : decode (ab_code (zx σ n0 bf).1 8189) 60 = .ok (.isub, 1) := zd zm_8189 (by decide +kernel)
theorem d_8189_61 {σ : Nat → Nat} {n0 : Nat} {bf : ab_B} : decode (ab_code (zx σ n0 bf).1 8189) 61 = .ok (.iaload, 1) := zd zm_8189 (by decide +kernel)
theorem d_8189_62 {σ : Nat → Nat} {n0 : Nat} {bf : ab_B} : decode (ab_code (zx σ n0 bf).1 8189) 62 = .ok (.invokevirtual 561, 3) := zd zm_8189 (by decide +kernel)
theorem d_8189_65 {σ : Nat → Nat} {n0 : Nat} {bf : ab_B} : decode (ab_code (zx σ n0 bf).1 8189) 65 = .ok (.iastore, 1) := zd zm_8189 (by decide +kernel)
theorem d_8189_66 {σ : Nat → Nat} {n0 : Nat} {bf : ab_B} : decode (ab_code (zx σ n0 bf).1 8189) 66 = .ok (.aload_n 0, 1) := zd zm_8189 (by decide +kernel)
theorem d_8189_67 {σ : Nat → Nat} {n0 : Nat} {bf : ab_B} : decode (ab_code (zx σ n0 bf).1 8189) 67 = .ok (.getfield 317, 3) := zd zm_8189 (by decide +kernel)
theorem d_8189_70 {σ : Nat → Nat} {n0 : Nat} {bf : ab_B} : decode (ab_code (zx σ n0 bf).1 8189) 70 = .ok (.aload_n 0, 1) := zd zm_8189 (by decide +kernel)
theorem d_8189_71 {σ : Nat → Nat} {n0 : Nat} {bf : ab_B} : decode (ab_code (zx σ n0 bf).1 8189) 71 = .ok (.getfield 983, 3) := zd zm_8189 (by decide +kernel)
theorem d_8189_74 {σ : Nat → Nat} {n0 : Nat} {bf : ab_B} : decode (ab_code (zx σ n0 bf).1 8189) 74 = .ok (.iconst 0, 1) := zd zm_8189 (by decide +kernel)
theorem d_8189_75 {σ : Nat → Nat} {n0 : Nat} {bf : ab_B} : decode (ab_code (zx σ n0 bf).1 8189) 75 = .ok (.iastore, 1) := zd zm_8189 (by decide +kernel)
theorem d_8189_76 {σ : Nat → Nat} {n0 : Nat} {bf : ab_B} : decode (ab_code (zx σ n0 bf).1 8189) 76 = .ok (.aload_n 0, 1) := zd zm_8189 (by decide +kernel)
theorem d_8189_77 {σ : Nat → Nat} {n0 : Nat} {bf : ab_B} : decode (ab_code (zx σ n0 bf).1 8189) 77 = .ok (.getfield 323, 3) := zd zm_8189 (by decide +kernel)
theorem d_8189_80 {σ : Nat → Nat} {n0 : Nat} {bf : ab_B} : decode (ab_code (zx σ n0 bf).1 8189) 80 = .ok (.aload_n 0, 1) := zd zm_8189 (by decide +kernel)
theorem d_8189_81 {σ : Nat → Nat} {n0 : Nat} {bf : ab_B} : decode (ab_code (zx σ n0 bf).1 8189) 81 = .ok (.getfield 983, 3) := zd zm_8189 (by decide +kernel)
theorem d_8189_84 {σ : Nat → Nat} {n0 : Nat} {bf : ab_B} : decode (ab_code (zx σ n0 bf).1 8189) 84 = .ok (.iconst 0, 1) := zd zm_8189 (by decide +kernel)
theorem d_8189_85 {σ : Nat → Nat} {n0 : Nat} {bf : ab_B} : decode (ab_code (zx σ n0 bf).1 8189) 85 = .ok (.iastore, 1) := zd zm_8189 (by decide +kernel)
theorem d_8189_86 {σ : Nat → Nat} {n0 : Nat} {bf : ab_B} : decode (ab_code (zx σ n0 bf).1 8189) 86 = .ok (.aload_n 0, 1) := zd zm_8189 (by decide +kernel)
theorem d_8189_87 {σ : Nat → Nat} {n0 : Nat} {bf : ab_B} : decode (ab_code (zx σ n0 bf).1 8189) 87 = .ok (.getfield 326, 3) := zd zm_8189 (by decide +kernel)
theorem d_8189_90 {σ : Nat → Nat} {n0 : Nat} {bf : ab_B} : decode (ab_code (zx σ n0 bf).1 8189) 90 = .ok (.aload_n 0, 1) := zd zm_8189 (by decide +kernel)
theorem d_8189_91 {σ : Nat → Nat} {n0 : Nat} {bf : ab_B} : decode (ab_code (zx σ n0 bf).1 8189) 91 = .ok (.getfield 983, 3) := zd zm_8189 (by decide +kernel)
theorem d_8189_94 {σ : Nat → Nat} {n0 : Nat} {bf : ab_B} : decode (ab_code (zx σ n0 bf).1 8189) 94 = .ok (.iconst 0, 1) := zd zm_8189 (by decide +kernel)
theorem d_8189_95 {σ : Nat → Nat} {n0 : Nat} {bf : ab_B} : decode (ab_code (zx σ n0 bf).1 8189) 95 = .ok (.iastore, 1) := zd zm_8189 (by decide +kernel)
theorem d_8189_96 {σ : Nat → Nat} {n0 : Nat} {bf : ab_B} : decode (ab_code (zx σ n0 bf).1 8189) 96 = .ok (.aload_n 0, 1) := zd zm_8189 (by decide +kernel)
theorem d_8189_97 {σ : Nat → Nat} {n0 : Nat} {bf : ab_B} : decode (ab_code (zx σ n0 bf).1 8189) 97 = .ok (.getfield 320, 3) := zd zm_8189 (by decide +kernel)
theorem d_8189_100 {σ : Nat → Nat} {n0 : Nat} {bf : ab_B} : decode (ab_code (zx σ n0 bf).1 8189) 100 = .ok (.aload_n 0, 1) := zd zm_8189 (by decide +kernel)
theorem d_8189_101 {σ : Nat → Nat} {n0 : Nat} {bf : ab_B} : decode (ab_code (zx σ n0 bf).1 8189) 101 = .ok (.getfield 983, 3) := zd zm_8189 (by decide +kernel)
theorem d_8189_104 {σ : Nat → Nat} {n0 : Nat} {bf : ab_B} : decode (ab_code (zx σ n0 bf).1 8189) 104 = .ok (.iconst 0, 1) := zd zm_8189 (by decide +kernel)
theorem d_8189_105 {σ : Nat → Nat} {n0 : Nat} {bf : ab_B} : decode (ab_code (zx σ n0 bf).1 8189) 105 = .ok (.iastore, 1) := zd zm_8189 (by decide +kernel)
theorem d_8189_106 {σ : Nat → Nat} {n0 : Nat} {bf : ab_B} : decode (ab_code (zx σ n0 bf).1 8189) 106 = .ok (.aload_n 0, 1) := zd zm_8189 (by decide +kernel)
theorem d_8189_107 {σ : Nat → Nat} {n0 : Nat} {bf : ab_B} : decode (ab_code (zx σ n0 bf).1 8189) 107 = .ok (.dup, 1) := zd zm_8189 (by decide +kernel)
theorem d_8189_108 {σ : Nat → Nat} {n0 : Nat} {bf : ab_B} : decode (ab_code (zx σ n0 bf).1 8189) 108 = .ok (.getfield 983, 3) := zd zm_8189 (by decide +kernel)
theorem d_8189_111 {σ : Nat → Nat} {n0 : Nat} {bf : ab_B} : decode (ab_code (zx σ n0 bf).1 8189) 111 = .ok (.iconst 1, 1) := zd zm_8189 (by decide +kernel)
theorem d_8189_112 {σ : Nat → Nat} {n0 : Nat} {bf : ab_B} : decode (ab_code (zx σ n0 bf).1 8189) 112 = .ok (.iadd, 1) := zd zm_8189 (by decide +kernel)
theorem d_8189_113 {σ : Nat → Nat} {n0 : Nat} {bf : ab_B} : decode (ab_code (zx σ n0 bf).1 8189) 113 = .ok (.putfield 983, 3) := zd zm_8189 (by decide +kernel)
theorem d_8189_116 {σ : Nat → Nat} {n0 : Nat} {bf : ab_B} : decode (ab_code (zx σ n0 bf).1 8189) 116 = .ok (.aload_n 0, 1) := zd zm_8189 (by decide +kernel)
theorem d_8189_117 {σ : Nat → Nat} {n0 : Nat} {bf : ab_B} : decode (ab_code (zx σ n0 bf).1 8189) 117 = .ok (.dup, 1) := zd zm_8189 (by decide +kernel)
theorem d_8189_118 {σ : Nat → Nat} {n0 : Nat} {bf : ab_B} : decode (ab_code (zx σ n0 bf).1 8189) 118 = .ok (.getfield 653, 3) := zd zm_8189 (by decide +kernel)
theorem d_8189_121 {σ : Nat → Nat} {n0 : Nat} {bf : ab_B} : decode (ab_code (zx σ n0 bf).1 8189) 121 = .ok (.iconst 1, 1) := zd zm_8189 (by decide +kernel)
theorem d_8189_122 {σ : Nat → Nat} {n0 : Nat} {bf : ab_B} : decode (ab_code (zx σ n0 bf).1 8189) 122 = .ok (.isub, 1) := zd zm_8189 (by decide +kernel)
theorem d_8189_123 {σ : Nat → Nat} {n0 : Nat} {bf : ab_B} : decode (ab_code (zx σ n0 bf).1 8189) 123 = .ok (.putfield 653, 3) := zd zm_8189 (by decide +kernel)
theorem d_8189_126 {σ : Nat → Nat} {n0 : Nat} {bf : ab_B} : decode (ab_code (zx σ n0 bf).1 8189) 126 = .ok (.aload_n 0, 1) := zd zm_8189 (by decide +kernel)
theorem d_8189_127 {σ : Nat → Nat} {n0 : Nat} {bf : ab_B} : decode (ab_code (zx σ n0 bf).1 8189) 127 = .ok (.bipush 21, 2) := zd zm_8189 (by decide +kernel)
theorem d_8189_129 {σ : Nat → Nat} {n0 : Nat} {bf : ab_B} : decode (ab_code (zx σ n0 bf).1 8189) 129 = .ok (.invokevirtual 846, 3) := zd zm_8189 (by decide +kernel)
theorem d_8189_132 {σ : Nat → Nat} {n0 : Nat} {bf : ab_B} : decode (ab_code (zx σ n0 bf).1 8189) 132 = .ok (.aload_n 0, 1) := zd zm_8189 (by decide +kernel)
theorem d_8189_133 {σ : Nat → Nat} {n0 : Nat} {bf : ab_B} : decode (ab_code (zx σ n0 bf).1 8189) 133 = .ok (.bipush 121, 2) := zd zm_8189 (by decide +kernel)
theorem d_8189_135 {σ : Nat → Nat} {n0 : Nat} {bf : ab_B} : decode (ab_code (zx σ n0 bf).1 8189) 135 = .ok (.iload_n 1, 1) := zd zm_8189 (by decide +kernel)
theorem d_8189_136 {σ : Nat → Nat} {n0 : Nat} {bf : ab_B} : decode (ab_code (zx σ n0 bf).1 8189) 136 = .ok (.iconst 0, 1) := zd zm_8189 (by decide +kernel)
theorem d_8189_137 {σ : Nat → Nat} {n0 : Nat} {bf : ab_B} : decode (ab_code (zx σ n0 bf).1 8189) 137 = .ok (.iconst 0, 1) := zd zm_8189 (by decide +kernel)
theorem d_8189_138 {σ : Nat → Nat} {n0 : Nat} {bf : ab_B} : decode (ab_code (zx σ n0 bf).1 8189) 138 = .ok (.invokevirtual 649, 3) := zd zm_8189 (by decide +kernel)
theorem d_8189_141 {σ : Nat → Nat} {n0 : Nat} {bf : ab_B} : decode (ab_code (zx σ n0 bf).1 8189) 141 = .ok (.aload_n 0, 1) := zd zm_8189 (by decide +kernel)
theorem d_8189_142 {σ : Nat → Nat} {n0 : Nat} {bf : ab_B} : decode (ab_code (zx σ n0 bf).1 8189) 142 = .ok (.bipush 118, 2) := zd zm_8189 (by decide +kernel)
theorem d_8189_144 {σ : Nat → Nat} {n0 : Nat} {bf : ab_B} : decode (ab_code (zx σ n0 bf).1 8189) 144 = .ok (.iconst 0, 1) := zd zm_8189 (by decide +kernel)
theorem d_8189_145 {σ : Nat → Nat} {n0 : Nat} {bf : ab_B} : decode (ab_code (zx σ n0 bf).1 8189) 145 = .ok (.iconst 0, 1) := zd zm_8189 (by decide +kernel)
theorem d_8189_146 {σ : Nat → Nat} {n0 : Nat} {bf : ab_B} : decode (ab_code (zx σ n0 bf).1 8189) 146 = .ok (.iconst 0, 1) := zd zm_8189 (by decide +kernel)
theorem d_8189_147 {σ : Nat → Nat} {n0 : Nat} {bf : ab_B} : decode (ab_code (zx σ n0 bf).1 8189) 147 = .ok (.invokevirtual 649, 3) := zd zm_8189 (by decide +kernel)
theorem d_8189_150 {σ : Nat → Nat} {n0 : Nat} {bf : ab_B} : decode (ab_code (zx σ n0 bf).1 8189) 150 = .ok (.aload_n 0, 1) := zd zm_8189 (by decide +kernel)
theorem d_8189_151 {σ : Nat → Nat} {n0 : Nat} {bf : ab_B} : decode (ab_code (zx σ n0 bf).1 8189) 151 = .ok (.iconst 2, 1) := zd zm_8189 (by decide +kernel)
theorem d_8189_152 {σ : Nat → Nat} {n0 : Nat} {bf : ab_B} : decode (ab_code (zx σ n0 bf).1 8189) 152 = .ok (.iconst 0, 1) := zd zm_8189 (by decide +kernel)
theorem d_8189_153 {σ : Nat → Nat} {n0 : Nat} {bf : ab_B} : decode (ab_code (zx σ n0 bf).1 8189) 153 = .ok (.iconst 0, 1) := zd zm_8189 (by decide +kernel)
theorem d_8189_154 {σ : Nat → Nat} {n0 : Nat} {bf : ab_B} : decode (ab_code (zx σ n0 bf).1 8189) 154 = .ok (.iconst 0, 1) := zd zm_8189 (by decide +kernel)
theorem d_8189_155 {σ : Nat → Nat} {n0 : Nat} {bf : ab_B} : decode (ab_code (zx σ n0 bf).1 8189) 155 = .ok (.invokevirtual 649, 3) := zd zm_8189 (by decide +kernel)
theorem d_8189_158 {σ : Nat → Nat} {n0 : Nat} {bf : ab_B} : decode (ab_code (zx σ n0 bf).1 8189) 158 = .ok (.return_, 1) := zd zm_8189 (by decide +kernel)
def w_X9_caseOf_158 (X : zs_X) (d : Nat)  (S : zs_T) (Q : zs_Q) : Prop :=
  (Q (.returned none) S)
theorem u_X9_caseOf_158 {σ : Nat → Nat} {n0 : Nat} {bf : ab_B} {d : Nat}  {S : zs_T} {Q : zs_Q} (hB : zt_B bf) (h : w_X9_caseOf_158 (zx σ n0 bf) d  S Q) : zs_U (zx σ n0 bf) d 8189 158 [] [] S Q := by
  unfold w_X9_caseOf_158 at h
  exact zu_vret d_8189_158 zr_8189 h
def w_X9_caseOf_126 (X : zs_X) (d : Nat) (p0 : Nat) (p1 : Int32) (S : zs_T) (Q : zs_Q) : Prop :=
  (zs_K S p0 = some (.inl 8) ∧ zs_C X d 8025 [.ref p0, .int (21 : Int32)] S (zs_kV (fun S2 => (zs_K S2 p0 = some (.inl 8) ∧ zs_C X d 8030 [.ref p0, .int (121 : Int32), .int p1, .int (0 : Int32), .int (0 : Int32)] S2 (zs_kV (fun S5 => (zs_K S5 p0 = some (.inl 8) ∧ zs_C X d 8030 [.ref p0, .int (118 : Int32), .int (0 : Int32), .int (0 : Int32), .int (0 : Int32)] S5 (zs_kV (fun S8 => (zs_K S8 p0 = some (.inl 8) ∧ zs_C X d 8030 [.ref p0, .int (2 : Int32), .int (0 : Int32), .int (0 : Int32), .int (0 : Int32)] S8 (zs_kV (fun S11 => w_X9_caseOf_158 X d  S11 Q) Q))) Q))) Q))) Q))
theorem u_X9_caseOf_126 {σ : Nat → Nat} {n0 : Nat} {bf : ab_B} {d : Nat} {p0 : Nat} {p1 : Int32} {S : zs_T} {Q : zs_Q} (hB : zt_B bf) (h : w_X9_caseOf_126 (zx σ n0 bf) d p0 p1 S Q) : zs_U (zx σ n0 bf) d 8189 126 [(0, .ref p0), (1, .int p1)] [] S Q := by
  unfold w_X9_caseOf_126 at h
  refine zu_aload_n d_8189_126 rfl (zs_ra _) ?_
  refine zu_bipush d_8189_127 zj_21 ?_
  obtain ⟨k1, h⟩ := h
  refine zc_8_846 (x0 := (21 : Int32)) hB rfl k1 d_8189_129 (Nat.le_of_ble_eq_true rfl) h (fun S2 h => ?_)
  refine zu_aload_n d_8189_132 rfl (zs_ra _) ?_
  refine zu_bipush d_8189_133 zj_121 ?_
  refine zu_iload_n d_8189_135 rfl ?_
  refine zu_iconst d_8189_136 zi_0 ?_
  refine zu_iconst d_8189_137 zi_0 ?_
  obtain ⟨k4, h⟩ := h
  refine zc_8_649 (x0 := (121 : Int32)) (x1 := p1) (x2 := (0 : Int32)) (x3 := (0 : Int32)) hB rfl k4 d_8189_138 (Nat.le_of_ble_eq_true rfl) h (fun S5 h => ?_)
  refine zu_aload_n d_8189_141 rfl (zs_ra _) ?_
  refine zu_bipush d_8189_142 zj_118 ?_
  refine zu_iconst d_8189_144 zi_0 ?_
  refine zu_iconst d_8189_145 zi_0 ?_
  refine zu_iconst d_8189_146 zi_0 ?_
  obtain ⟨k7, h⟩ := h
  refine zc_8_649 (x0 := (118 : Int32)) (x1 := (0 : Int32)) (x2 := (0 : Int32)) (x3 := (0 : Int32)) hB rfl k7 d_8189_147 (Nat.le_of_ble_eq_true rfl) h (fun S8 h => ?_)
  refine zu_aload_n d_8189_150 rfl (zs_ra _) ?_
  refine zu_iconst d_8189_151 zi_2 ?_
  refine zu_iconst d_8189_152 zi_0 ?_
  refine zu_iconst d_8189_153 zi_0 ?_
  refine zu_iconst d_8189_154 zi_0 ?_
  obtain ⟨k10, h⟩ := h
  refine zc_8_649 (x0 := (2 : Int32)) (x1 := (0 : Int32)) (x2 := (0 : Int32)) (x3 := (0 : Int32)) hB rfl k10 d_8189_155 (Nat.le_of_ble_eq_true rfl) h (fun S11 h => ?_)
  exact (u_X9_caseOf_158 hB h).weak trivial
def w_X9_caseOf_96 (X : zs_X) (d : Nat) (p0 : Nat) (p1 : Int32) (S : zs_T) (Q : zs_Q) : Prop :=
  (zs_K S p0 = some (.inl 8) ∧ ∃ b2, (zs_R S 8148 p0) = some b2 ∧ zs_A S b2 0 (zs_I S 8153 p0) ∧ ab_n0 X.1 ≤ b2 ∧ ∀ S6, S6 = zs_si S b2 (zs_I S 8153 p0).toNatClampNeg (0 : Int32) → ab_n0 X.1 ≤ p0 ∧ ∀ S10, S10 = zs_sI S6 8153 p0 ((zs_I S6 8153 p0) + (1 : Int32)) → ∀ S13, S13 = zs_sI S10 8097 p0 ((zs_I S10 8097 p0) - (1 : Int32)) → w_X9_caseOf_126 X d p0 p1 S13 Q)
theorem u_X9_caseOf_96 {σ : Nat → Nat} {n0 : Nat} {bf : ab_B} {d : Nat} {p0 : Nat} {p1 : Int32} {S : zs_T} {Q : zs_Q} (hB : zt_B bf) (h : w_X9_caseOf_96 (zx σ n0 bf) d p0 p1 S Q) : zs_U (zx σ n0 bf) d 8189 96 [(0, .ref p0), (1, .int p1)] [] S Q := by
  unfold w_X9_caseOf_96 at h
  refine zu_aload_n d_8189_96 rfl (zs_ra _) ?_
  obtain ⟨k1, h⟩ := h
  refine zg_8_320 rfl d_8189_97 k1 ?_
  refine zu_aload_n d_8189_100 rfl (zs_ra _) ?_
  refine zg_8_983 rfl d_8189_101 k1 ?_
  refine zu_iconst d_8189_104 zi_0 ?_
  obtain ⟨b2, e3, h⟩ := h
  refine zs_stk2 (zs_rfe e3) ?_
  obtain ⟨k4, h⟩ := h
  obtain ⟨k5, h⟩ := h
  refine zu_iast (k := 0) d_8189_105 rfl rfl k5 k4 ?_
  generalize e7 : zs_si S b2 (zs_I S 8153 p0).toNatClampNeg (0 : Int32) = S6
  have h := h S6 e7.symm
  have K8 : ∀ b, zs_K S6 b = zs_K S b := zs_Kt e7 (zs_Ksi _ _ _ _) (fun _ => rfl)
  refine zu_aload_n d_8189_106 rfl (zs_ra _) ?_
  refine zu_dup d_8189_107 rfl ?_
  refine zg_8_983 rfl d_8189_108 ((K8 _).trans k1) ?_
  refine zu_iconst d_8189_111 zi_1 ?_
  refine zu_stk d_8189_112 rfl rfl ?_
  obtain ⟨k9, h⟩ := h
  refine zp_8_983 (v := ((zs_I S6 8153 p0) + (1 : Int32))) rfl d_8189_113 ((K8 _).trans k1) k9 ?_
  generalize e11 : zs_sI S6 8153 p0 ((zs_I S6 8153 p0) + (1 : Int32)) = S10
  have h := h S10 e11.symm
  have K12 : ∀ b, zs_K S10 b = zs_K S b := zs_Kt e11 (zs_KsI _ _ _ _) K8
  refine zu_aload_n d_8189_116 rfl (zs_ra _) ?_
  refine zu_dup d_8189_117 rfl ?_
  refine zg_8_653 rfl d_8189_118 ((K12 _).trans k1) ?_
  refine zu_iconst d_8189_121 zi_1 ?_
  refine zu_stk d_8189_122 rfl rfl ?_
  refine zp_8_653 (v := ((zs_I S10 8097 p0) - (1 : Int32))) rfl d_8189_123 ((K12 _).trans k1) k9 ?_
  generalize e14 : zs_sI S10 8097 p0 ((zs_I S10 8097 p0) - (1 : Int32)) = S13
  have h := h S13 e14.symm
  have K15 : ∀ b, zs_K S13 b = zs_K S b := zs_Kt e14 (zs_KsI _ _ _ _) K12
  exact (u_X9_caseOf_126 hB h).weak ⟨rfl, rfl, trivial⟩
def w_X9_caseOf_66 (X : zs_X) (d : Nat) (p0 : Nat) (p1 : Int32) (S : zs_T) (Q : zs_Q) : Prop :=
  (zs_K S p0 = some (.inl 8) ∧ ∃ b2, (zs_R S 8147 p0) = some b2 ∧ zs_A S b2 0 (zs_I S 8153 p0) ∧ ab_n0 X.1 ≤ b2 ∧ ∀ S6, S6 = zs_si S b2 (zs_I S 8153 p0).toNatClampNeg (0 : Int32) → ∃ b9, (zs_R S6 8149 p0) = some b9 ∧ zs_A S b9 0 (zs_I S6 8153 p0) ∧ ab_n0 X.1 ≤ b9 ∧ ∀ S13, S13 = zs_si S6 b9 (zs_I S6 8153 p0).toNatClampNeg (0 : Int32) → ∃ b16, (zs_R S13 8150 p0) = some b16 ∧ zs_A S b16 0 (zs_I S13 8153 p0) ∧ ab_n0 X.1 ≤ b16 ∧ ∀ S20, S20 = zs_si S13 b16 (zs_I S13 8153 p0).toNatClampNeg (0 : Int32) → w_X9_caseOf_96 X d p0 p1 S20 Q)
theorem u_X9_caseOf_66 {σ : Nat → Nat} {n0 : Nat} {bf : ab_B} {d : Nat} {p0 : Nat} {p1 : Int32} {S : zs_T} {Q : zs_Q} (hB : zt_B bf) (h : w_X9_caseOf_66 (zx σ n0 bf) d p0 p1 S Q) : zs_U (zx σ n0 bf) d 8189 66 [(0, .ref p0), (1, .int p1)] [] S Q := by
  unfold w_X9_caseOf_66 at h
  refine zu_aload_n d_8189_66 rfl (zs_ra _) ?_
  obtain ⟨k1, h⟩ := h
  refine zg_8_317 rfl d_8189_67 k1 ?_
  refine zu_aload_n d_8189_70 rfl (zs_ra _) ?_
  refine zg_8_983 rfl d_8189_71 k1 ?_
  refine zu_iconst d_8189_74 zi_0 ?_
  obtain ⟨b2, e3, h⟩ := h
  refine zs_stk2 (zs_rfe e3) ?_
  obtain ⟨k4, h⟩ := h
  obtain ⟨k5, h⟩ := h
  refine zu_iast (k := 0) d_8189_75 rfl rfl k5 k4 ?_
  generalize e7 : zs_si S b2 (zs_I S 8153 p0).toNatClampNeg (0 : Int32) = S6
  have h := h S6 e7.symm
  have K8 : ∀ b, zs_K S6 b = zs_K S b := zs_Kt e7 (zs_Ksi _ _ _ _) (fun _ => rfl)
  refine zu_aload_n d_8189_76 rfl (zs_ra _) ?_
  refine zg_8_323 rfl d_8189_77 ((K8 _).trans k1) ?_
  refine zu_aload_n d_8189_80 rfl (zs_ra _) ?_
  refine zg_8_983 rfl d_8189_81 ((K8 _).trans k1) ?_
  refine zu_iconst d_8189_84 zi_0 ?_
  obtain ⟨b9, e10, h⟩ := h
  refine zs_stk2 (zs_rfe e10) ?_
  obtain ⟨k11, h⟩ := h
  obtain ⟨k12, h⟩ := h
  refine zu_iast (k := 0) d_8189_85 rfl rfl k12 (zs_Ak K8 k11) ?_
  generalize e14 : zs_si S6 b9 (zs_I S6 8153 p0).toNatClampNeg (0 : Int32) = S13
  have h := h S13 e14.symm
  have K15 : ∀ b, zs_K S13 b = zs_K S b := zs_Kt e14 (zs_Ksi _ _ _ _) K8
  refine zu_aload_n d_8189_86 rfl (zs_ra _) ?_
  refine zg_8_326 rfl d_8189_87 ((K15 _).trans k1) ?_
  refine zu_aload_n d_8189_90 rfl (zs_ra _) ?_
  refine zg_8_983 rfl d_8189_91 ((K15 _).trans k1) ?_
  refine zu_iconst d_8189_94 zi_0 ?_
  obtain ⟨b16, e17, h⟩ := h
  refine zs_stk2 (zs_rfe e17) ?_
  obtain ⟨k18, h⟩ := h
  obtain ⟨k19, h⟩ := h
  refine zu_iast (k := 0) d_8189_95 rfl rfl k19 (zs_Ak K15 k18) ?_
  generalize e21 : zs_si S13 b16 (zs_I S13 8153 p0).toNatClampNeg (0 : Int32) = S20
  have h := h S20 e21.symm
  have K22 : ∀ b, zs_K S20 b = zs_K S b := zs_Kt e21 (zs_Ksi _ _ _ _) K15
  exact (u_X9_caseOf_96 hB h).weak ⟨rfl, rfl, trivial⟩
def w_X9_caseOf_34 (X : zs_X) (d : Nat) (p0 : Nat) (p1 : Int32) (S : zs_T) (Q : zs_Q) : Prop :=
  (zs_K S p0 = some (.inl 8) ∧ (((zs_I S 8010 p0) ≤ 0 → (∃ b3, (zs_R S 8091 p0) = some b3 ∧ zs_A S b3 0 ((zs_I S 8097 p0) - (1 : Int32)) ∧ zs_C X d 8042 [.ref p0, .int (zs_i S b3 ((zs_I S 8097 p0) - (1 : Int32)).toNatClampNeg)] S (zs_kI (fun v7 S6 => (∃ b8, (zs_R S 8146 p0) = some b8 ∧ zs_A S6 b8 0 (zs_I S 8153 p0) ∧ ab_n0 X.1 ≤ b8 ∧ ∀ S12, S12 = zs_si S6 b8 (zs_I S 8153 p0).toNatClampNeg v7 → w_X9_caseOf_66 X d p0 p1 S12 Q)) Q))) ∧ (¬ ((zs_I S 8010 p0) ≤ 0) → (Q (.returned none) S))))
theorem u_X9_caseOf_34 {σ : Nat → Nat} {n0 : Nat} {bf : ab_B} {d : Nat} {p0 : Nat} {p1 : Int32} {S : zs_T} {Q : zs_Q} (hB : zt_B bf) (h : w_X9_caseOf_34 (zx σ n0 bf) d p0 p1 S Q) : zs_U (zx σ n0 bf) d 8189 34 [(0, .ref p0), (1, .int p1)] [] S Q := by
  unfold w_X9_caseOf_34 at h
  refine zu_aload_n d_8189_34 rfl (zs_ra _) ?_
  obtain ⟨k1, h⟩ := h
  refine zg_8_444 rfl d_8189_35 k1 ?_
  refine zu_ifle (t := 42) d_8189_38 rfl (fun c2 => ?_) (fun c2 => ?_)
  · have h := h.1 c2
    refine zu_aload_n d_8189_42 rfl (zs_ra _) ?_
    refine zg_8_314 rfl d_8189_43 k1 ?_
    refine zu_aload_n d_8189_46 rfl (zs_ra _) ?_
    refine zg_8_983 rfl d_8189_47 k1 ?_
    refine zu_aload_n d_8189_50 rfl (zs_ra _) ?_
    refine zu_aload_n d_8189_51 rfl (zs_ra _) ?_
    refine zg_8_191 rfl d_8189_52 k1 ?_
    refine zu_aload_n d_8189_55 rfl (zs_ra _) ?_
    refine zg_8_653 rfl d_8189_56 k1 ?_
    refine zu_iconst d_8189_59 zi_1 ?_
    refine zu_stk d_8189_60 rfl rfl ?_
    obtain ⟨b3, e4, h⟩ := h
    refine zs_stk1 (zs_rfe e4) ?_
    obtain ⟨k5, h⟩ := h
    refine zu_iald (k := 0) d_8189_61 rfl rfl k5 ?_
    refine zc_8_561 (x0 := (zs_i S b3 ((zs_I S 8097 p0) - (1 : Int32)).toNatClampNeg)) hB rfl k1 d_8189_62 (by simp only [List.map_cons, List.map_nil, List.sum_cons, List.sum_nil, zs_cat, zs_cI, zs_cJ, zs_cA]; exact Nat.le_of_ble_eq_true rfl) h (fun v7 S6 h => ?_)
    obtain ⟨b8, e9, h⟩ := h
    refine zs_stk2 (zs_rfe e9) ?_
    obtain ⟨k10, h⟩ := h
    obtain ⟨k11, h⟩ := h
    refine zu_iast (k := 0) d_8189_65 rfl rfl k11 k10 ?_
    generalize e13 : zs_si S6 b8 (zs_I S 8153 p0).toNatClampNeg v7 = S12
    have h := h S12 e13.symm
    have K14 : ∀ b, zs_K S12 b = zs_K S6 b := zs_Kt e13 (zs_Ksi _ _ _ _) (fun _ => rfl)
    exact (u_X9_caseOf_66 hB h).weak ⟨rfl, rfl, trivial⟩
  · have h := h.2 c2
    exact zu_vret d_8189_41 zr_8189 h
def w_X9_caseOf (X : zs_X) (d : Nat) (p0 : Nat) (p1 : Int32) (S : zs_T) (Q : zs_Q) : Prop :=
  (zs_K S p0 = some (.inl 8) ∧ zs_C X d 8037 [.ref p0] S (zs_kV (fun S2 => (zs_K S2 p0 = some (.inl 8) ∧ ((¬ (zs_I S2 8010 p0) = 0 → w_X9_caseOf_34 X d p0 p1 S2 Q) ∧ (¬ (¬ (zs_I S2 8010 p0) = 0) → (∃ b6, (zs_R S2 8091 p0) = some b6 ∧ zs_A S2 b6 0 ((zs_I S2 8097 p0) - (1 : Int32)) ∧ zs_C X d 8036 [.ref p0, .int (zs_i S2 b6 ((zs_I S2 8097 p0) - (1 : Int32)).toNatClampNeg)] S2 (zs_kI (fun v10 S9 => (((¬ v10 = 0 → w_X9_caseOf_34 X d p0 p1 S9 Q) ∧ (¬ (¬ v10 = 0) → (zs_K S9 p0 = some (.inl 8) ∧ zs_C X d 8027 [.ref p0, .int (5 : Int32)] S9 (zs_kV (fun S13 => w_X9_caseOf_34 X d p0 p1 S13 Q) Q)))))) Q)))))) Q))
theorem u_X9_caseOf {σ : Nat → Nat} {n0 : Nat} {bf : ab_B} {d : Nat} {p0 : Nat} {p1 : Int32} {S : zs_T} {Q : zs_Q} (hB : zt_B bf) (hd : 1 ≤ d) (h : w_X9_caseOf (zx σ n0 bf) (d - 1) p0 p1 S Q) : zs_C (zx σ n0 bf) d 8189 [.ref p0, .int p1] S Q := by
  have hL : lv_args 0 [.ref p0, .int p1] = [(0, .ref p0), (1, .int p1)] := rfl
  refine zs_C.of1 (hB.2 8189 (by decide) (by decide)) hd (by rw [hL]; exact zs_sub_self _ (by exact ⟨rfl, rfl, trivial⟩)) ?_
  rw [hL]
  clear hL
  unfold w_X9_caseOf at h
  refine zu_aload_n d_8189_0 rfl (zs_ra _) ?_
  obtain ⟨k1, h⟩ := h
  refine zc_8_660  hB rfl k1 d_8189_1 (Nat.le_of_ble_eq_true rfl) h (fun S2 h => ?_)
  refine zu_aload_n d_8189_4 rfl (zs_ra _) ?_
  obtain ⟨k4, h⟩ := h
  refine zg_8_444 rfl d_8189_5 k4 ?_
  refine zu_ifne (t := 34) d_8189_8 rfl (fun c5 => ?_) (fun c5 => ?_)
  · have h := h.1 c5
    exact (u_X9_caseOf_34 hB h).weak ⟨rfl, rfl, trivial⟩
  · have h := h.2 c5
    refine zu_aload_n d_8189_11 rfl (zs_ra _) ?_
    refine zu_aload_n d_8189_12 rfl (zs_ra _) ?_
    refine zg_8_191 rfl d_8189_13 k4 ?_
    refine zu_aload_n d_8189_16 rfl (zs_ra _) ?_
    refine zg_8_653 rfl d_8189_17 k4 ?_
    refine zu_iconst d_8189_20 zi_1 ?_
    refine zu_stk d_8189_21 rfl rfl ?_
    obtain ⟨b6, e7, h⟩ := h
    refine zs_stk1 (zs_rfe e7) ?_
    obtain ⟨k8, h⟩ := h
    refine zu_iald (k := 0) d_8189_22 rfl rfl k8 ?_
    refine zc_8_564 (x0 := (zs_i S2 b6 ((zs_I S2 8097 p0) - (1 : Int32)).toNatClampNeg)) hB rfl k4 d_8189_23 (Nat.le_of_ble_eq_true rfl) h (fun v10 S9 h => ?_)
    refine zu_ifne (t := 34) d_8189_26 rfl (fun c11 => ?_) (fun c11 => ?_)
    · have h := h.1 c11
      exact (u_X9_caseOf_34 hB h).weak ⟨rfl, rfl, trivial⟩
    · have h := h.2 c11
      refine zu_aload_n d_8189_29 rfl (zs_ra _) ?_
      refine zu_iconst d_8189_30 zi_5 ?_
      obtain ⟨k12, h⟩ := h
      refine zc_8_541 (x0 := (5 : Int32)) hB rfl k12 d_8189_31 (Nat.le_of_ble_eq_true rfl) h (fun S13 h => ?_)
      exact (u_X9_caseOf_34 hB h).weak ⟨rfl, rfl, trivial⟩
/-! SchemaPascalModel.caseLabel(Z)V -/
theorem zm_8190 {σ : Nat → Nat} {n0 : Nat} {bf : ab_B} : ab_code (zx σ n0 bf).1 8190 = prog_17_method_181_code := rfl
theorem zq_8190 {σ : Nat → Nat} {n0 : Nat} {bf : ab_B} : ab_maxL (zx σ n0 bf).1 8190 = 10 := rfl
theorem zr_8190 {σ : Nat → Nat} {n0 : Nat} {bf : ab_B} : ab_ret (zx σ n0 bf).1 8190 = (Option.none : Option Jvm.ClassFile.FieldType) := rfl
theorem d_8190_0 {σ : Nat → Nat} {n0 : Nat} {bf : ab_B} : decode (ab_code (zx σ n0 bf).1 8190) 0 = .ok (.aload_n 0, 1) := zd zm_8190 (by decide +kernel)
theorem d_8190_1 {σ : Nat → Nat} {n0 : Nat} {bf : ab_B} : decode (ab_code (zx σ n0 bf).1 8190) 1 = .ok (.getfield 983, 3) := zd zm_8190 (by decide +kernel)
theorem d_8190_4 {σ : Nat → Nat} {n0 : Nat} {bf : ab_B} : decode (ab_code (zx σ n0 bf).1 8190) 4 = .ok (.iconst 1, 1) := zd zm_8190 (by decide +kernel)
theorem d_8190_5 {σ : Nat → Nat} {n0 : Nat} {bf : ab_B} : decode (ab_code (zx σ n0 bf).1 8190) 5 = .ok (.isub, 1) := zd zm_8190 (by decide +kernel)
theorem d_8190_6 {σ : Nat → Nat} {n0 : Nat} {bf : ab_B} : decode (ab_code (zx σ n0 bf).1 8190) 6 = .ok (.istore_n 2, 1) := zd zm_8190 (by decide +kernel)
theorem d_8190_7 {σ : Nat → Nat} {n0 : Nat} {bf : ab_B} : decode (ab_code (zx σ n0 bf).1 8190) 7 = .ok (.aload_n 0, 1) := zd zm_8190 (by decide +kernel)
theorem d_8190_8 {σ : Nat → Nat} {n0 : Nat} {bf : ab_B} : decode (ab_code (zx σ n0 bf).1 8190) 8 = .ok (.getfield 314, 3) := zd zm_8190 (by decide +kernel)
theorem d_8190_11 {σ : Nat → Nat} {n0 : Nat} {bf : ab_B} : decode (ab_code (zx σ n0 bf).1 8190) 11 = .ok (.iload_n 2, 1) := zd zm_8190 (by decide +kernel)
theorem d_8190_12 {σ : Nat → Nat} {n0 : Nat} {bf : ab_B} : decode (ab_code (zx σ n0 bf).1 8190) 12 = .ok (.iaload, 1) := zd zm_8190 (by decide +kernel)
theorem d_8190_13 {σ : Nat → Nat} {n0 : Nat} {bf : ab_B} : decode (ab_code (zx σ n0 bf).1 8190) 13 = .ok (.istore_n 3, 1) := zd zm_8190 (by decide +kernel)
theorem d_8190_14 {σ : Nat → Nat} {n0 : Nat} {bf : ab_B} : decode (ab_code (zx σ n0 bf).1 8190) 14 = .ok (.aload_n 0, 1) := zd zm_8190 (by decide +kernel)
theorem d_8190_15 {σ : Nat → Nat} {n0 : Nat} {bf : ab_B} : decode (ab_code (zx σ n0 bf).1 8190) 15 = .ok (.iload_n 3, 1) := zd zm_8190 (by decide +kernel)
theorem d_8190_16 {σ : Nat → Nat} {n0 : Nat} {bf : ab_B} : decode (ab_code (zx σ n0 bf).1 8190) 16 = .ok (.invokevirtual 912, 3) := zd zm_8190 (by decide +kernel)
theorem d_8190_19 {σ : Nat → Nat} {n0 : Nat} {bf : ab_B} : decode (ab_code (zx σ n0 bf).1 8190) 19 = .ok (.lstore 4, 2) := zd zm_8190 (by decide +kernel)
theorem d_8190_21 {σ : Nat → Nat} {n0 : Nat} {bf : ab_B} : decode (ab_code (zx σ n0 bf).1 8190) 21 = .ok (.aload_n 0, 1) := zd zm_8190 (by decide +kernel)
theorem d_8190_22 {σ : Nat → Nat} {n0 : Nat} {bf : ab_B} : decode (ab_code (zx σ n0 bf).1 8190) 22 = .ok (.getfield 444, 3) := zd zm_8190 (by decide +kernel)
theorem d_8190_25 {σ : Nat → Nat} {n0 : Nat} {bf : ab_B} : decode (ab_code (zx σ n0 bf).1 8190) 25 = .ok (.ifCond .le 4, 3) := zd zm_8190 (by decide +kernel)
theorem d_8190_28 {σ : Nat → Nat} {n0 : Nat} {bf : ab_B} : decode (ab_code (zx σ n0 bf).1 8190) 28 = .ok (.return_, 1) := zd zm_8190 (by decide +kernel)
theorem d_8190_29 {σ : Nat → Nat} {n0 : Nat} {bf : ab_B} : decode (ab_code (zx σ n0 bf).1 8190) 29 = .ok (.iload_n 1, 1) := zd zm_8190 (by decide +kernel)
theorem d_8190_30 {σ : Nat → Nat} {n0 : Nat} {bf : ab_B} : decode (ab_code (zx σ n0 bf).1 8190) 30 = .ok (.ifCond .ne 53, 3) := zd zm_8190 (by decide +kernel)
theorem d_8190_33 {σ : Nat → Nat} {n0 : Nat} {bf : ab_B} : decode (ab_code (zx σ n0 bf).1 8190) 33 = .ok (.aload_n 0, 1) := zd zm_8190 (by decide +kernel)
theorem d_8190_34 {σ : Nat → Nat} {n0 : Nat} {bf : ab_B} : decode (ab_code (zx σ n0 bf).1 8190) 34 = .ok (.bipush 21, 2) := zd zm_8190 (by decide +kernel)
theorem d_8190_36 {σ : Nat → Nat} {n0 : Nat} {bf : ab_B} : decode (ab_code (zx σ n0 bf).1 8190) 36 = .ok (.invokevirtual 535, 3) := zd zm_8190 (by decide +kernel)
theorem d_8190_39 {σ : Nat → Nat} {n0 : Nat} {bf : ab_B} : decode (ab_code (zx σ n0 bf).1 8190) 39 = .ok (.ifCond .eq 44, 3) := zd zm_8190 (by decide +kernel)
theorem d_8190_42 {σ : Nat → Nat} {n0 : Nat} {bf : ab_B} : decode (ab_code (zx σ n0 bf).1 8190) 42 = .ok (.aload_n 0, 1) := zd zm_8190 (by decide +kernel)
theorem d_8190_43 {σ : Nat → Nat} {n0 : Nat} {bf : ab_B} : decode (ab_code (zx σ n0 bf).1 8190) 43 = .ok (.getfield 329, 3) := zd zm_8190 (by decide +kernel)
theorem d_8190_46 {σ : Nat → Nat} {n0 : Nat} {bf : ab_B} : decode (ab_code (zx σ n0 bf).1 8190) 46 = .ok (.iload_n 2, 1) := zd zm_8190 (by decide +kernel)
theorem d_8190_47 {σ : Nat → Nat} {n0 : Nat} {bf : ab_B} : decode (ab_code (zx σ n0 bf).1 8190) 47 = .ok (.lload 4, 2) := zd zm_8190 (by decide +kernel)
theorem d_8190_49 {σ : Nat → Nat} {n0 : Nat} {bf : ab_B} : decode (ab_code (zx σ n0 bf).1 8190) 49 = .ok (.l2i, 1) := zd zm_8190 (by decide +kernel)
theorem d_8190_50 {σ : Nat → Nat} {n0 : Nat} {bf : ab_B} : decode (ab_code (zx σ n0 bf).1 8190) 50 = .ok (.iastore, 1) := zd zm_8190 (by decide +kernel)
theorem d_8190_51 {σ : Nat → Nat} {n0 : Nat} {bf : ab_B} : decode (ab_code (zx σ n0 bf).1 8190) 51 = .ok (.aload_n 0, 1) := zd zm_8190 (by decide +kernel)
theorem d_8190_52 {σ : Nat → Nat} {n0 : Nat} {bf : ab_B} : decode (ab_code (zx σ n0 bf).1 8190) 52 = .ok (.getfield 332, 3) := zd zm_8190 (by decide +kernel)
theorem d_8190_55 {σ : Nat → Nat} {n0 : Nat} {bf : ab_B} : decode (ab_code (zx σ n0 bf).1 8190) 55 = .ok (.iload_n 2, 1) := zd zm_8190 (by decide +kernel)
theorem d_8190_56 {σ : Nat → Nat} {n0 : Nat} {bf : ab_B} : decode (ab_code (zx σ n0 bf).1 8190) 56 = .ok (.aload_n 0, 1) := zd zm_8190 (by decide +kernel)
theorem d_8190_57 {σ : Nat → Nat} {n0 : Nat} {bf : ab_B} : decode (ab_code (zx σ n0 bf).1 8190) 57 = .ok (.getfield 909, 3) := zd zm_8190 (by decide +kernel)
theorem d_8190_60 {σ : Nat → Nat} {n0 : Nat} {bf : ab_B} : decode (ab_code (zx σ n0 bf).1 8190) 60 = .ok (.bastore, 1) := zd zm_8190 (by decide +kernel)
theorem d_8190_61 {σ : Nat → Nat} {n0 : Nat} {bf : ab_B} : decode (ab_code (zx σ n0 bf).1 8190) 61 = .ok (.aload_n 0, 1) := zd zm_8190 (by decide +kernel)
theorem d_8190_62 {σ : Nat → Nat} {n0 : Nat} {bf : ab_B} : decode (ab_code (zx σ n0 bf).1 8190) 62 = .ok (.bipush 119, 2) := zd zm_8190 (by decide +kernel)
theorem d_8190_64 {σ : Nat → Nat} {n0 : Nat} {bf : ab_B} : decode (ab_code (zx σ n0 bf).1 8190) 64 = .ok (.iconst 0, 1) := zd zm_8190 (by decide +kernel)
theorem d_8190_65 {σ : Nat → Nat} {n0 : Nat} {bf : ab_B} : decode (ab_code (zx σ n0 bf).1 8190) 65 = .ok (.iconst 0, 1) := zd zm_8190 (by decide +kernel)
theorem d_8190_66 {σ : Nat → Nat} {n0 : Nat} {bf : ab_B} : decode (ab_code (zx σ n0 bf).1 8190) 66 = .ok (.iconst 0, 1) := zd zm_8190 (by decide +kernel)
theorem d_8190_67 {σ : Nat → Nat} {n0 : Nat} {bf : ab_B} : decode (ab_code (zx σ n0 bf).1 8190) 67 = .ok (.invokevirtual 649, 3) := zd zm_8190 (by decide +kernel)
theorem d_8190_70 {σ : Nat → Nat} {n0 : Nat} {bf : ab_B} : decode (ab_code (zx σ n0 bf).1 8190) 70 = .ok (.aload_n 0, 1) := zd zm_8190 (by decide +kernel)
theorem d_8190_71 {σ : Nat → Nat} {n0 : Nat} {bf : ab_B} : decode (ab_code (zx σ n0 bf).1 8190) 71 = .ok (.iconst 2, 1) := zd zm_8190 (by decide +kernel)
theorem d_8190_72 {σ : Nat → Nat} {n0 : Nat} {bf : ab_B} : decode (ab_code (zx σ n0 bf).1 8190) 72 = .ok (.iconst 0, 1) := zd zm_8190 (by decide +kernel)
theorem d_8190_73 {σ : Nat → Nat} {n0 : Nat} {bf : ab_B} : decode (ab_code (zx σ n0 bf).1 8190) 73 = .ok (.iconst 0, 1) := zd zm_8190 (by decide +kernel)
theorem d_8190_74 {σ : Nat → Nat} {n0 : Nat} {bf : ab_B} : decode (ab_code (zx σ n0 bf).1 8190) 74 = .ok (.iconst 0, 1) := zd zm_8190 (by decide +kernel)
theorem d_8190_75 {σ : Nat → Nat} {n0 : Nat} {bf : ab_B} : decode (ab_code (zx σ n0 bf).1 8190) 75 = .ok (.invokevirtual 649, 3) := zd zm_8190 (by decide +kernel)
theorem d_8190_78 {σ : Nat → Nat} {n0 : Nat} {bf : ab_B} : decode (ab_code (zx σ n0 bf).1 8190) 78 = .ok (.aload_n 0, 1) := zd zm_8190 (by decide +kernel)
theorem d_8190_79 {σ : Nat → Nat} {n0 : Nat} {bf : ab_B} : decode (ab_code (zx σ n0 bf).1 8190) 79 = .ok (.invokevirtual 538, 3) := zd zm_8190 (by decide +kernel)
theorem d_8190_82 {σ : Nat → Nat} {n0 : Nat} {bf : ab_B} : decode (ab_code (zx σ n0 bf).1 8190) 82 = .ok (.return_, 1) := zd zm_8190 (by decide +kernel)
theorem d_8190_83 {σ : Nat → Nat} {n0 : Nat} {bf : ab_B} : decode (ab_code (zx σ n0 bf).1 8190) 83 = .ok (.iload_n 1, 1) := zd zm_8190 (by decide +kernel)
theorem d_8190_84 {σ : Nat → Nat} {n0 : Nat} {bf : ab_B} : decode (ab_code (zx σ n0 bf).1 8190) 84 = .ok (.ifCond .eq 13, 3) := zd zm_8190 (by decide +kernel)
theorem d_8190_87 {σ : Nat → Nat} {n0 : Nat} {bf : ab_B} : decode (ab_code (zx σ n0 bf).1 8190) 87 = .ok (.aload_n 0, 1) := zd zm_8190 (by decide +kernel)
theorem d_8190_88 {σ : Nat → Nat} {n0 : Nat} {bf : ab_B} : decode (ab_code (zx σ n0 bf).1 8190) 88 = .ok (.getfield 329, 3) := zd zm_8190 (by decide +kernel)
theorem d_8190_91 {σ : Nat → Nat} {n0 : Nat} {bf : ab_B} : decode (ab_code (zx σ n0 bf).1 8190) 91 = .ok (.iload_n 2, 1) := zd zm_8190 (by decide +kernel)
theorem d_8190_92 {σ : Nat → Nat} {n0 : Nat} {bf : ab_B} : decode (ab_code (zx σ n0 bf).1 8190) 92 = .ok (.iaload, 1) := zd zm_8190 (by decide +kernel)
theorem d_8190_93 {σ : Nat → Nat} {n0 : Nat} {bf : ab_B} : decode (ab_code (zx σ n0 bf).1 8190) 93 = .ok (.i2l, 1) := zd zm_8190 (by decide +kernel)
theorem d_8190_94 {σ : Nat → Nat} {n0 : Nat} {bf : ab_B} : decode (ab_code (zx σ n0 bf).1 8190) 94 = .ok (.goto 5, 3) := zd zm_8190 (by decide +kernel)
theorem d_8190_97 {σ : Nat → Nat} {n0 : Nat} {bf : ab_B} : decode (ab_code (zx σ n0 bf).1 8190) 97 = .ok (.lload 4, 2) := zd zm_8190 (by decide +kernel)
theorem d_8190_99 {σ : Nat → Nat} {n0 : Nat} {bf : ab_B} : decode (ab_code (zx σ n0 bf).1 8190) 99 = .ok (.lstore 6, 2) := zd zm_8190 (by decide +kernel)
theorem d_8190_101 {σ : Nat → Nat} {n0 : Nat} {bf : ab_B} : decode (ab_code (zx σ n0 bf).1 8190) 101 = .ok (.aload_n 0, 1) := zd zm_8190 (by decide +kernel)
theorem d_8190_102 {σ : Nat → Nat} {n0 : Nat} {bf : ab_B} : decode (ab_code (zx σ n0 bf).1 8190) 102 = .ok (.getfield 909, 3) := zd zm_8190 (by decide +kernel)
theorem d_8190_105 {σ : Nat → Nat} {n0 : Nat} {bf : ab_B} : decode (ab_code (zx σ n0 bf).1 8190) 105 = .ok (.ifCond .ne 41, 3) := zd zm_8190 (by decide +kernel)
theorem d_8190_108 {σ : Nat → Nat} {n0 : Nat} {bf : ab_B} : decode (ab_code (zx σ n0 bf).1 8190) 108 = .ok (.iload_n 1, 1) := zd zm_8190 (by decide +kernel)
theorem d_8190_109 {σ : Nat → Nat} {n0 : Nat} {bf : ab_B} : decode (ab_code (zx σ n0 bf).1 8190) 109 = .ok (.ifCond .eq 12, 3) := zd zm_8190 (by decide +kernel)
theorem d_8190_112 {σ : Nat → Nat} {n0 : Nat} {bf : ab_B} : decode (ab_code (zx σ n0 bf).1 8190) 112 = .ok (.aload_n 0, 1) := zd zm_8190 (by decide +kernel)
theorem d_8190_113 {σ : Nat → Nat} {n0 : Nat} {bf : ab_B} : decode (ab_code (zx σ n0 bf).1 8190) 113 = .ok (.getfield 332, 3) := zd zm_8190 (by decide +kernel)
theorem d_8190_116 {σ : Nat → Nat} {n0 : Nat} {bf : ab_B} : decode (ab_code (zx σ n0 bf).1 8190) 116 = .ok (.iload_n 2, 1) := zd zm_8190 (by decide +kernel)
theorem d_8190_117 {σ : Nat → Nat} {n0 : Nat} {bf : ab_B} : decode (ab_code (zx σ n0 bf).1 8190) 117 = .ok (.baload, 1) := zd zm_8190 (by decide +kernel)
theorem d_8190_118 {σ : Nat → Nat} {n0 : Nat} {bf : ab_B} : decode (ab_code (zx σ n0 bf).1 8190) 118 = .ok (.ifCond .ne 28, 3) := zd zm_8190 (by decide +kernel)
theorem d_8190_121 {σ : Nat → Nat} {n0 : Nat} {bf : ab_B} : decode (ab_code (zx σ n0 bf).1 8190) 121 = .ok (.lload 6, 2) := zd zm_8190 (by decide +kernel)
theorem d_8190_123 {σ : Nat → Nat} {n0 : Nat} {bf : ab_B} : decode (ab_code (zx σ n0 bf).1 8190) 123 = .ok (.lload 4, 2) := zd zm_8190 (by decide +kernel)
theorem d_8190_125 {σ : Nat → Nat} {n0 : Nat} {bf : ab_B} : decode (ab_code (zx σ n0 bf).1 8190) 125 = .ok (.lcmp, 1) := zd zm_8190 (by decide +kernel)
theorem d_8190_126 {σ : Nat → Nat} {n0 : Nat} {bf : ab_B} : decode (ab_code (zx σ n0 bf).1 8190) 126 = .ok (.ifCond .gt 20, 3) := zd zm_8190 (by decide +kernel)
theorem d_8190_129 {σ : Nat → Nat} {n0 : Nat} {bf : ab_B} : decode (ab_code (zx σ n0 bf).1 8190) 129 = .ok (.aload_n 0, 1) := zd zm_8190 (by decide +kernel)
theorem d_8190_130 {σ : Nat → Nat} {n0 : Nat} {bf : ab_B} : decode (ab_code (zx σ n0 bf).1 8190) 130 = .ok (.aload_n 0, 1) := zd zm_8190 (by decide +kernel)
theorem d_8190_131 {σ : Nat → Nat} {n0 : Nat} {bf : ab_B} : decode (ab_code (zx σ n0 bf).1 8190) 131 = .ok (.getfield 317, 3) := zd zm_8190 (by decide +kernel)
theorem d_8190_134 {σ : Nat → Nat} {n0 : Nat} {bf : ab_B} : decode (ab_code (zx σ n0 bf).1 8190) 134 = .ok (.iload_n 2, 1) := zd zm_8190 (by decide +kernel)
theorem d_8190_135 {σ : Nat → Nat} {n0 : Nat} {bf : ab_B} : decode (ab_code (zx σ n0 bf).1 8190) 135 = .ok (.iaload, 1) := zd zm_8190 (by decide +kernel)
theorem d_8190_136 {σ : Nat → Nat} {n0 : Nat} {bf : ab_B} : decode (ab_code (zx σ n0 bf).1 8190) 136 = .ok (.lload 6, 2) := zd zm_8190 (by decide +kernel)
theorem d_8190_138 {σ : Nat → Nat} {n0 : Nat} {bf : ab_B} : decode (ab_code (zx σ n0 bf).1 8190) 138 = .ok (.lload 4, 2) := zd zm_8190 (by decide +kernel)
theorem d_8190_140 {σ : Nat → Nat} {n0 : Nat} {bf : ab_B} : decode (ab_code (zx σ n0 bf).1 8190) 140 = .ok (.invokevirtual 915, 3) := zd zm_8190 (by decide +kernel)
theorem d_8190_143 {σ : Nat → Nat} {n0 : Nat} {bf : ab_B} : decode (ab_code (zx σ n0 bf).1 8190) 143 = .ok (.ifCond .eq 10, 3) := zd zm_8190 (by decide +kernel)
theorem d_8190_146 {σ : Nat → Nat} {n0 : Nat} {bf : ab_B} : decode (ab_code (zx σ n0 bf).1 8190) 146 = .ok (.aload_n 0, 1) := zd zm_8190 (by decide +kernel)
theorem d_8190_147 {σ : Nat → Nat} {n0 : Nat} {bf : ab_B} : decode (ab_code (zx σ n0 bf).1 8190) 147 = .ok (.bipush 9, 2) := zd zm_8190 (by decide +kernel)
theorem d_8190_149 {σ : Nat → Nat} {n0 : Nat} {bf : ab_B} : decode (ab_code (zx σ n0 bf).1 8190) 149 = .ok (.invokevirtual 541, 3) := zd zm_8190 (by decide +kernel)
theorem d_8190_152 {σ : Nat → Nat} {n0 : Nat} {bf : ab_B} : decode (ab_code (zx σ n0 bf).1 8190) 152 = .ok (.return_, 1) := zd zm_8190 (by decide +kernel)
theorem d_8190_153 {σ : Nat → Nat} {n0 : Nat} {bf : ab_B} : decode (ab_code (zx σ n0 bf).1 8190) 153 = .ok (.aload_n 0, 1) := zd zm_8190 (by decide +kernel)
theorem d_8190_154 {σ : Nat → Nat} {n0 : Nat} {bf : ab_B} : decode (ab_code (zx σ n0 bf).1 8190) 154 = .ok (.dup, 1) := zd zm_8190 (by decide +kernel)
theorem d_8190_155 {σ : Nat → Nat} {n0 : Nat} {bf : ab_B} : decode (ab_code (zx σ n0 bf).1 8190) 155 = .ok (.getfield 593, 3) := zd zm_8190 (by decide +kernel)
theorem d_8190_158 {σ : Nat → Nat} {n0 : Nat} {bf : ab_B} : decode (ab_code (zx σ n0 bf).1 8190) 158 = .ok (.iconst 1, 1) := zd zm_8190 (by decide +kernel)
theorem d_8190_159 {σ : Nat → Nat} {n0 : Nat} {bf : ab_B} : decode (ab_code (zx σ n0 bf).1 8190) 159 = .ok (.iadd, 1) := zd zm_8190 (by decide +kernel)
theorem d_8190_160 {σ : Nat → Nat} {n0 : Nat} {bf : ab_B} : decode (ab_code (zx σ n0 bf).1 8190) 160 = .ok (.putfield 593, 3) := zd zm_8190 (by decide +kernel)
theorem d_8190_163 {σ : Nat → Nat} {n0 : Nat} {bf : ab_B} : decode (ab_code (zx σ n0 bf).1 8190) 163 = .ok (.aload_n 0, 1) := zd zm_8190 (by decide +kernel)
theorem d_8190_164 {σ : Nat → Nat} {n0 : Nat} {bf : ab_B} : decode (ab_code (zx σ n0 bf).1 8190) 164 = .ok (.getfield 163, 3) := zd zm_8190 (by decide +kernel)
theorem d_8190_167 {σ : Nat → Nat} {n0 : Nat} {bf : ab_B} : decode (ab_code (zx σ n0 bf).1 8190) 167 = .ok (.aload_n 0, 1) := zd zm_8190 (by decide +kernel)
theorem d_8190_168 {σ : Nat → Nat} {n0 : Nat} {bf : ab_B} : decode (ab_code (zx σ n0 bf).1 8190) 168 = .ok (.getfield 593, 3) := zd zm_8190 (by decide +kernel)
theorem d_8190_171 {σ : Nat → Nat} {n0 : Nat} {bf : ab_B} : decode (ab_code (zx σ n0 bf).1 8190) 171 = .ok (.lload 6, 2) := zd zm_8190 (by decide +kernel)
theorem d_8190_173 {σ : Nat → Nat} {n0 : Nat} {bf : ab_B} : decode (ab_code (zx σ n0 bf).1 8190) 173 = .ok (.l2i, 1) := zd zm_8190 (by decide +kernel)
theorem d_8190_174 {σ : Nat → Nat} {n0 : Nat} {bf : ab_B} : decode (ab_code (zx σ n0 bf).1 8190) 174 = .ok (.iastore, 1) := zd zm_8190 (by decide +kernel)
theorem d_8190_175 {σ : Nat → Nat} {n0 : Nat} {bf : ab_B} : decode (ab_code (zx σ n0 bf).1 8190) 175 = .ok (.aload_n 0, 1) := zd zm_8190 (by decide +kernel)
theorem d_8190_176 {σ : Nat → Nat} {n0 : Nat} {bf : ab_B} : decode (ab_code (zx σ n0 bf).1 8190) 176 = .ok (.getfield 166, 3) := zd zm_8190 (by decide +kernel)
theorem d_8190_179 {σ : Nat → Nat} {n0 : Nat} {bf : ab_B} : decode (ab_code (zx σ n0 bf).1 8190) 179 = .ok (.aload_n 0, 1) := zd zm_8190 (by decide +kernel)
theorem d_8190_180 {σ : Nat → Nat} {n0 : Nat} {bf : ab_B} : decode (ab_code (zx σ n0 bf).1 8190) 180 = .ok (.getfield 593, 3) := zd zm_8190 (by decide +kernel)
theorem d_8190_183 {σ : Nat → Nat} {n0 : Nat} {bf : ab_B} : decode (ab_code (zx σ n0 bf).1 8190) 183 = .ok (.lload 4, 2) := zd zm_8190 (by decide +kernel)
theorem d_8190_185 {σ : Nat → Nat} {n0 : Nat} {bf : ab_B} : decode (ab_code (zx σ n0 bf).1 8190) 185 = .ok (.l2i, 1) := zd zm_8190 (by decide +kernel)
theorem d_8190_186 {σ : Nat → Nat} {n0 : Nat} {bf : ab_B} : decode (ab_code (zx σ n0 bf).1 8190) 186 = .ok (.iastore, 1) := zd zm_8190 (by decide +kernel)
theorem d_8190_187 {σ : Nat → Nat} {n0 : Nat} {bf : ab_B} : decode (ab_code (zx σ n0 bf).1 8190) 187 = .ok (.aload_n 0, 1) := zd zm_8190 (by decide +kernel)
theorem d_8190_188 {σ : Nat → Nat} {n0 : Nat} {bf : ab_B} : decode (ab_code (zx σ n0 bf).1 8190) 188 = .ok (.getfield 169, 3) := zd zm_8190 (by decide +kernel)
theorem d_8190_191 {σ : Nat → Nat} {n0 : Nat} {bf : ab_B} : decode (ab_code (zx σ n0 bf).1 8190) 191 = .ok (.aload_n 0, 1) := zd zm_8190 (by decide +kernel)
theorem d_8190_192 {σ : Nat → Nat} {n0 : Nat} {bf : ab_B} : decode (ab_code (zx σ n0 bf).1 8190) 192 = .ok (.getfield 593, 3) := zd zm_8190 (by decide +kernel)
theorem d_8190_195 {σ : Nat → Nat} {n0 : Nat} {bf : ab_B} : decode (ab_code (zx σ n0 bf).1 8190) 195 = .ok (.aload_n 0, 1) := zd zm_8190 (by decide +kernel)
theorem d_8190_196 {σ : Nat → Nat} {n0 : Nat} {bf : ab_B} : decode (ab_code (zx σ n0 bf).1 8190) 196 = .ok (.getfield 317, 3) := zd zm_8190 (by decide +kernel)
theorem d_8190_199 {σ : Nat → Nat} {n0 : Nat} {bf : ab_B} : decode (ab_code (zx σ n0 bf).1 8190) 199 = .ok (.iload_n 2, 1) := zd zm_8190 (by decide +kernel)
theorem d_8190_200 {σ : Nat → Nat} {n0 : Nat} {bf : ab_B} : decode (ab_code (zx σ n0 bf).1 8190) 200 = .ok (.iaload, 1) := zd zm_8190 (by decide +kernel)
theorem d_8190_201 {σ : Nat → Nat} {n0 : Nat} {bf : ab_B} : decode (ab_code (zx σ n0 bf).1 8190) 201 = .ok (.iastore, 1) := zd zm_8190 (by decide +kernel)
theorem d_8190_202 {σ : Nat → Nat} {n0 : Nat} {bf : ab_B} : decode (ab_code (zx σ n0 bf).1 8190) 202 = .ok (.aload_n 0, 1) := zd zm_8190 (by decide +kernel)
theorem d_8190_203 {σ : Nat → Nat} {n0 : Nat} {bf : ab_B} : decode (ab_code (zx σ n0 bf).1 8190) 203 = .ok (.getfield 317, 3) := zd zm_8190 (by decide +kernel)
theorem d_8190_206 {σ : Nat → Nat} {n0 : Nat} {bf : ab_B} : decode (ab_code (zx σ n0 bf).1 8190) 206 = .ok (.iload_n 2, 1) := zd zm_8190 (by decide +kernel)
theorem d_8190_207 {σ : Nat → Nat} {n0 : Nat} {bf : ab_B} : decode (ab_code (zx σ n0 bf).1 8190) 207 = .ok (.aload_n 0, 1) := zd zm_8190 (by decide +kernel)
theorem d_8190_208 {σ : Nat → Nat} {n0 : Nat} {bf : ab_B} : decode (ab_code (zx σ n0 bf).1 8190) 208 = .ok (.getfield 593, 3) := zd zm_8190 (by decide +kernel)
theorem d_8190_211 {σ : Nat → Nat} {n0 : Nat} {bf : ab_B} : decode (ab_code (zx σ n0 bf).1 8190) 211 = .ok (.iastore, 1) := zd zm_8190 (by decide +kernel)
theorem d_8190_212 {σ : Nat → Nat} {n0 : Nat} {bf : ab_B} : decode (ab_code (zx σ n0 bf).1 8190) 212 = .ok (.aload_n 0, 1) := zd zm_8190 (by decide +kernel)
theorem d_8190_213 {σ : Nat → Nat} {n0 : Nat} {bf : ab_B} : decode (ab_code (zx σ n0 bf).1 8190) 213 = .ok (.getfield 326, 3) := zd zm_8190 (by decide +kernel)
theorem d_8190_216 {σ : Nat → Nat} {n0 : Nat} {bf : ab_B} : decode (ab_code (zx σ n0 bf).1 8190) 216 = .ok (.iload_n 2, 1) := zd zm_8190 (by decide +kernel)
theorem d_8190_217 {σ : Nat → Nat} {n0 : Nat} {bf : ab_B} : decode (ab_code (zx σ n0 bf).1 8190) 217 = .ok (.aload_n 0, 1) := zd zm_8190 (by decide +kernel)
theorem d_8190_218 {σ : Nat → Nat} {n0 : Nat} {bf : ab_B} : decode (ab_code (zx σ n0 bf).1 8190) 218 = .ok (.bipush 83, 2) := zd zm_8190 (by decide +kernel)
theorem d_8190_220 {σ : Nat → Nat} {n0 : Nat} {bf : ab_B} : decode (ab_code (zx σ n0 bf).1 8190) 220 = .ok (.aload_n 0, 1) := zd zm_8190 (by decide +kernel)
theorem d_8190_221 {σ : Nat → Nat} {n0 : Nat} {bf : ab_B} : decode (ab_code (zx σ n0 bf).1 8190) 221 = .ok (.getfield 326, 3) := zd zm_8190 (by decide +kernel)
theorem d_8190_224 {σ : Nat → Nat} {n0 : Nat} {bf : ab_B} : decode (ab_code (zx σ n0 bf).1 8190) 224 = .ok (.iload_n 2, 1) := zd zm_8190 (by decide +kernel)
theorem d_8190_225 {σ : Nat → Nat} {n0 : Nat} {bf : ab_B} : decode (ab_code (zx σ n0 bf).1 8190) 225 = .ok (.iaload, 1) := zd zm_8190 (by decide +kernel)
theorem d_8190_226 {σ : Nat → Nat} {n0 : Nat} {bf : ab_B} : decode (ab_code (zx σ n0 bf).1 8190) 226 = .ok (.aload_n 0, 1) := zd zm_8190 (by decide +kernel)
theorem d_8190_227 {σ : Nat → Nat} {n0 : Nat} {bf : ab_B} : decode (ab_code (zx σ n0 bf).1 8190) 227 = .ok (.getfield 593, 3) := zd zm_8190 (by decide +kernel)
theorem d_8190_230 {σ : Nat → Nat} {n0 : Nat} {bf : ab_B} : decode (ab_code (zx σ n0 bf).1 8190) 230 = .ok (.iconst 0, 1) := zd zm_8190 (by decide +kernel)
theorem d_8190_231 {σ : Nat → Nat} {n0 : Nat} {bf : ab_B} : decode (ab_code (zx σ n0 bf).1 8190) 231 = .ok (.invokevirtual 656, 3) := zd zm_8190 (by decide +kernel)
theorem d_8190_234 {σ : Nat → Nat} {n0 : Nat} {bf : ab_B} : decode (ab_code (zx σ n0 bf).1 8190) 234 = .ok (.iastore, 1) := zd zm_8190 (by decide +kernel)
theorem d_8190_235 {σ : Nat → Nat} {n0 : Nat} {bf : ab_B} : decode (ab_code (zx σ n0 bf).1 8190) 235 = .ok (.aload_n 0, 1) := zd zm_8190 (by decide +kernel)
theorem d_8190_236 {σ : Nat → Nat} {n0 : Nat} {bf : ab_B} : decode (ab_code (zx σ n0 bf).1 8190) 236 = .ok (.bipush 12, 2) := zd zm_8190 (by decide +kernel)
theorem d_8190_238 {σ : Nat → Nat} {n0 : Nat} {bf : ab_B} : decode (ab_code (zx σ n0 bf).1 8190) 238 = .ok (.invokevirtual 535, 3) := zd zm_8190 (by decide +kernel)
theorem d_8190_241 {σ : Nat → Nat} {n0 : Nat} {bf : ab_B} : decode (ab_code (zx σ n0 bf).1 8190) 241 = .ok (.ifCond .eq 25, 3) := zd zm_8190 (by decide +kernel)
theorem d_8190_244 {σ : Nat → Nat} {n0 : Nat} {bf : ab_B} : decode (ab_code (zx σ n0 bf).1 8190) 244 = .ok (.aload_n 0, 1) := zd zm_8190 (by decide +kernel)
theorem d_8190_245 {σ : Nat → Nat} {n0 : Nat} {bf : ab_B} : decode (ab_code (zx σ n0 bf).1 8190) 245 = .ok (.invokevirtual 538, 3) := zd zm_8190 (by decide +kernel)
theorem d_8190_248 {σ : Nat → Nat} {n0 : Nat} {bf : ab_B} : decode (ab_code (zx σ n0 bf).1 8190) 248 = .ok (.aload_n 0, 1) := zd zm_8190 (by decide +kernel)
theorem d_8190_249 {σ : Nat → Nat} {n0 : Nat} {bf : ab_B} : decode (ab_code (zx σ n0 bf).1 8190) 249 = .ok (.bipush 118, 2) := zd zm_8190 (by decide +kernel)
theorem d_8190_251 {σ : Nat → Nat} {n0 : Nat} {bf : ab_B} : decode (ab_code (zx σ n0 bf).1 8190) 251 = .ok (.iconst 0, 1) := zd zm_8190 (by decide +kernel)
theorem d_8190_252 {σ : Nat → Nat} {n0 : Nat} {bf : ab_B} : decode (ab_code (zx σ n0 bf).1 8190) 252 = .ok (.iconst 0, 1) := zd zm_8190 (by decide +kernel)
theorem d_8190_253 {σ : Nat → Nat} {n0 : Nat} {bf : ab_B} : decode (ab_code (zx σ n0 bf).1 8190) 253 = .ok (.iconst 0, 1) := zd zm_8190 (by decide +kernel)
theorem d_8190_254 {σ : Nat → Nat} {n0 : Nat} {bf : ab_B} : decode (ab_code (zx σ n0 bf).1 8190) 254 = .ok (.invokevirtual 649, 3) := zd zm_8190 (by decide +kernel)
theorem d_8190_257 {σ : Nat → Nat} {n0 : Nat} {bf : ab_B} : decode (ab_code (zx σ n0 bf).1 8190) 257 = .ok (.aload_n 0, 1) := zd zm_8190 (by decide +kernel)
theorem d_8190_258 {σ : Nat → Nat} {n0 : Nat} {bf : ab_B} : decode (ab_code (zx σ n0 bf).1 8190) 258 = .ok (.iconst 2, 1) := zd zm_8190 (by decide +kernel)
theorem d_8190_259 {σ : Nat → Nat} {n0 : Nat} {bf : ab_B} : decode (ab_code (zx σ n0 bf).1 8190) 259 = .ok (.iconst 0, 1) := zd zm_8190 (by decide +kernel)
theorem d_8190_260 {σ : Nat → Nat} {n0 : Nat} {bf : ab_B} : decode (ab_code (zx σ n0 bf).1 8190) 260 = .ok (.iconst 0, 1) := zd zm_8190 (by decide +kernel)
theorem d_8190_261 {σ : Nat → Nat} {n0 : Nat} {bf : ab_B} : decode (ab_code (zx σ n0 bf).1 8190) 261 = .ok (.iconst 0, 1) := zd zm_8190 (by decide +kernel)
theorem d_8190_262 {σ : Nat → Nat} {n0 : Nat} {bf : ab_B} : decode (ab_code (zx σ n0 bf).1 8190) 262 = .ok (.invokevirtual 649, 3) := zd zm_8190 (by decide +kernel)
theorem d_8190_265 {σ : Nat → Nat} {n0 : Nat} {bf : ab_B} : decode (ab_code (zx σ n0 bf).1 8190) 265 = .ok (.return_, 1) := zd zm_8190 (by decide +kernel)
theorem d_8190_266 {σ : Nat → Nat} {n0 : Nat} {bf : ab_B} : decode (ab_code (zx σ n0 bf).1 8190) 266 = .ok (.aload_n 0, 1) := zd zm_8190 (by decide +kernel)
theorem d_8190_267 {σ : Nat → Nat} {n0 : Nat} {bf : ab_B} : decode (ab_code (zx σ n0 bf).1 8190) 267 = .ok (.bipush 14, 2) := zd zm_8190 (by decide +kernel)
theorem d_8190_269 {σ : Nat → Nat} {n0 : Nat} {bf : ab_B} : decode (ab_code (zx σ n0 bf).1 8190) 269 = .ok (.invokevirtual 746, 3) := zd zm_8190 (by decide +kernel)
theorem d_8190_272 {σ : Nat → Nat} {n0 : Nat} {bf : ab_B} : decode (ab_code (zx σ n0 bf).1 8190) 272 = .ok (.aload_n 0, 1) := zd zm_8190 (by decide +kernel)
theorem d_8190_273 {σ : Nat → Nat} {n0 : Nat} {bf : ab_B} : decode (ab_code (zx σ n0 bf).1 8190) 273 = .ok (.getfield 320, 3) := zd zm_8190 (by decide +kernel)
theorem d_8190_276 {σ : Nat → Nat} {n0 : Nat} {bf : ab_B} : decode (ab_code (zx σ n0 bf).1 8190) 276 = .ok (.iload_n 2, 1) := zd zm_8190 (by decide +kernel)
theorem d_8190_277 {σ : Nat → Nat} {n0 : Nat} {bf : ab_B} : decode (ab_code (zx σ n0 bf).1 8190) 277 = .ok (.aload_n 0, 1) := zd zm_8190 (by decide +kernel)
theorem d_8190_278 {σ : Nat → Nat} {n0 : Nat} {bf : ab_B} : decode (ab_code (zx σ n0 bf).1 8190) 278 = .ok (.bipush 80, 2) := zd zm_8190 (by decide +kernel)
theorem d_8190_280 {σ : Nat → Nat} {n0 : Nat} {bf : ab_B} : decode (ab_code (zx σ n0 bf).1 8190) 280 = .ok (.iconst 0, 1) := zd zm_8190 (by decide +kernel)
theorem d_8190_281 {σ : Nat → Nat} {n0 : Nat} {bf : ab_B} : decode (ab_code (zx σ n0 bf).1 8190) 281 = .ok (.iconst 0, 1) := zd zm_8190 (by decide +kernel)
theorem d_8190_282 {σ : Nat → Nat} {n0 : Nat} {bf : ab_B} : decode (ab_code (zx σ n0 bf).1 8190) 282 = .ok (.iconst 0, 1) := zd zm_8190 (by decide +kernel)
theorem d_8190_283 {σ : Nat → Nat} {n0 : Nat} {bf : ab_B} : decode (ab_code (zx σ n0 bf).1 8190) 283 = .ok (.invokevirtual 656, 3) := zd zm_8190 (by decide +kernel)
theorem d_8190_286 {σ : Nat → Nat} {n0 : Nat} {bf : ab_B} : decode (ab_code (zx σ n0 bf).1 8190) 286 = .ok (.iastore, 1) := zd zm_8190 (by decide +kernel)
theorem d_8190_287 {σ : Nat → Nat} {n0 : Nat} {bf : ab_B} : decode (ab_code (zx σ n0 bf).1 8190) 287 = .ok (.aload_n 0, 1) := zd zm_8190 (by decide +kernel)
theorem d_8190_288 {σ : Nat → Nat} {n0 : Nat} {bf : ab_B} : decode (ab_code (zx σ n0 bf).1 8190) 288 = .ok (.getfield 326, 3) := zd zm_8190 (by decide +kernel)
theorem d_8190_291 {σ : Nat → Nat} {n0 : Nat} {bf : ab_B} : decode (ab_code (zx σ n0 bf).1 8190) 291 = .ok (.iload_n 2, 1) := zd zm_8190 (by decide +kernel)
theorem d_8190_292 {σ : Nat → Nat} {n0 : Nat} {bf : ab_B} : decode (ab_code (zx σ n0 bf).1 8190) 292 = .ok (.iaload, 1) := zd zm_8190 (by decide +kernel)
theorem d_8190_293 {σ : Nat → Nat} {n0 : Nat} {bf : ab_B} : decode (ab_code (zx σ n0 bf).1 8190) 293 = .ok (.istore 8, 2) := zd zm_8190 (by decide +kernel)
theorem d_8190_295 {σ : Nat → Nat} {n0 : Nat} {bf : ab_B} : decode (ab_code (zx σ n0 bf).1 8190) 295 = .ok (.iload 8, 2) := zd zm_8190 (by decide +kernel)
theorem d_8190_297 {σ : Nat → Nat} {n0 : Nat} {bf : ab_B} : decode (ab_code (zx σ n0 bf).1 8190) 297 = .ok (.ifCond .le 30, 3) := zd zm_8190 (by decide +kernel)
theorem d_8190_300 {σ : Nat → Nat} {n0 : Nat} {bf : ab_B} : decode (ab_code (zx σ n0 bf).1 8190) 300 = .ok (.aload_n 0, 1) := zd zm_8190 (by decide +kernel)
theorem d_8190_301 {σ : Nat → Nat} {n0 : Nat} {bf : ab_B} : decode (ab_code (zx σ n0 bf).1 8190) 301 = .ok (.getfield 75, 3) := zd zm_8190 (by decide +kernel)
theorem d_8190_304 {σ : Nat → Nat} {n0 : Nat} {bf : ab_B} : decode (ab_code (zx σ n0 bf).1 8190) 304 = .ok (.iload 8, 2) := zd zm_8190 (by decide +kernel)
theorem d_8190_306 {σ : Nat → Nat} {n0 : Nat} {bf : ab_B} : decode (ab_code (zx σ n0 bf).1 8190) 306 = .ok (.iaload, 1) := zd zm_8190 (by decide +kernel)
theorem d_8190_307 {σ : Nat → Nat} {n0 : Nat} {bf : ab_B} : decode (ab_code (zx σ n0 bf).1 8190) 307 = .ok (.istore 9, 2) := zd zm_8190 (by decide +kernel)
theorem d_8190_309 {σ : Nat → Nat} {n0 : Nat} {bf : ab_B} : decode (ab_code (zx σ n0 bf).1 8190) 309 = .ok (.aload_n 0, 1) := zd zm_8190 (by decide +kernel)
theorem d_8190_310 {σ : Nat → Nat} {n0 : Nat} {bf : ab_B} : decode (ab_code (zx σ n0 bf).1 8190) 310 = .ok (.getfield 75, 3) := zd zm_8190 (by decide +kernel)
theorem d_8190_313 {σ : Nat → Nat} {n0 : Nat} {bf : ab_B} : decode (ab_code (zx σ n0 bf).1 8190) 313 = .ok (.iload 8, 2) := zd zm_8190 (by decide +kernel)
theorem d_8190_315 {σ : Nat → Nat} {n0 : Nat} {bf : ab_B} : decode (ab_code (zx σ n0 bf).1 8190) 315 = .ok (.aload_n 0, 1) := zd zm_8190 (by decide +kernel)
theorem d_8190_316 {σ : Nat → Nat} {n0 : Nat} {bf : ab_B} : decode (ab_code (zx σ n0 bf).1 8190) 316 = .ok (.getfield 556, 3) := zd zm_8190 (by decide +kernel)
theorem d_8190_319 {σ : Nat → Nat} {n0 : Nat} {bf : ab_B} : decode (ab_code (zx σ n0 bf).1 8190) 319 = .ok (.iastore, 1) := zd zm_8190 (by decide +kernel)
theorem d_8190_320 {σ : Nat → Nat} {n0 : Nat} {bf : ab_B} : decode (ab_code (zx σ n0 bf).1 8190) 320 = .ok (.iload 9, 2) := zd zm_8190 (by decide +kernel)
theorem d_8190_322 {σ : Nat → Nat} {n0 : Nat} {bf : ab_B} : decode (ab_code (zx σ n0 bf).1 8190) 322 = .ok (.istore 8, 2) := zd zm_8190 (by decide +kernel)
theorem d_8190_324 {σ : Nat → Nat} {n0 : Nat} {bf : ab_B} : decode (ab_code (zx σ n0 bf).1 8190) 324 = .ok (.goto (-29), 3) := zd zm_8190 (by decide +kernel)
theorem d_8190_327 {σ : Nat → Nat} {n0 : Nat} {bf : ab_B} : decode (ab_code (zx σ n0 bf).1 8190) 327 = .ok (.aload_n 0, 1) := zd zm_8190 (by decide +kernel)
theorem d_8190_328 {σ : Nat → Nat} {n0 : Nat} {bf : ab_B} : decode (ab_code (zx σ n0 bf).1 8190) 328 = .ok (.getfield 326, 3) := zd zm_8190 (by decide +kernel)
theorem d_8190_331 {σ : Nat → Nat} {n0 : Nat} {bf : ab_B} : decode (ab_code (zx σ n0 bf).1 8190) 331 = .ok (.iload_n 2, 1) := zd zm_8190 (by decide +kernel)
theorem d_8190_332 {σ : Nat → Nat} {n0 : Nat} {bf : ab_B} : decode (ab_code (zx σ n0 bf).1 8190) 332 = .ok (.iconst 0, 1) := zd zm_8190 (by decide +kernel)
theorem d_8190_333 {σ : Nat → Nat} {n0 : Nat} {bf : ab_B} : decode (ab_code (zx σ n0 bf).1 8190) 333 = .ok (.iastore, 1) := zd zm_8190 (by decide +kernel)
theorem d_8190_334 {σ : Nat → Nat} {n0 : Nat} {bf : ab_B} : decode (ab_code (zx σ n0 bf).1 8190) 334 = .ok (.aload_n 0, 1) := zd zm_8190 (by decide +kernel)
theorem d_8190_335 {σ : Nat → Nat} {n0 : Nat} {bf : ab_B} : decode (ab_code (zx σ n0 bf).1 8190) 335 = .ok (.bipush 84, 2) := zd zm_8190 (by decide +kernel)
theorem d_8190_337 {σ : Nat → Nat} {n0 : Nat} {bf : ab_B} : decode (ab_code (zx σ n0 bf).1 8190) 337 = .ok (.iconst 0, 1) := zd zm_8190 (by decide +kernel)
theorem d_8190_338 {σ : Nat → Nat} {n0 : Nat} {bf : ab_B} : decode (ab_code (zx σ n0 bf).1 8190) 338 = .ok (.iconst 0, 1) := zd zm_8190 (by decide +kernel)
theorem d_8190_339 {σ : Nat → Nat} {n0 : Nat} {bf : ab_B} : decode (ab_code (zx σ n0 bf).1 8190) 339 = .ok (.iconst 0, 1) := zd zm_8190 (by decide +kernel)
theorem d_8190_340 {σ : Nat → Nat} {n0 : Nat} {bf : ab_B} : decode (ab_code (zx σ n0 bf).1 8190) 340 = .ok (.invokevirtual 656, 3) := zd zm_8190 (by decide +kernel)
theorem d_8190_343 {σ : Nat → Nat} {n0 : Nat} {bf : ab_B} : decode (ab_code (zx σ n0 bf).1 8190) 343 = .ok (.istore 9, 2) := zd zm_8190 (by decide +kernel)
theorem d_8190_345 {σ : Nat → Nat} {n0 : Nat} {bf : ab_B} : decode (ab_code (zx σ n0 bf).1 8190) 345 = .ok (.aload_n 0, 1) := zd zm_8190 (by decide +kernel)
theorem d_8190_346 {σ : Nat → Nat} {n0 : Nat} {bf : ab_B} : decode (ab_code (zx σ n0 bf).1 8190) 346 = .ok (.bipush 120, 2) := zd zm_8190 (by decide +kernel)
theorem d_8190_348 {σ : Nat → Nat} {n0 : Nat} {bf : ab_B} : decode (ab_code (zx σ n0 bf).1 8190) 348 = .ok (.iconst 0, 1) := zd zm_8190 (by decide +kernel)
theorem d_8190_349 {σ : Nat → Nat} {n0 : Nat} {bf : ab_B} : decode (ab_code (zx σ n0 bf).1 8190) 349 = .ok (.iconst 0, 1) := zd zm_8190 (by decide +kernel)
theorem d_8190_350 {σ : Nat → Nat} {n0 : Nat} {bf : ab_B} : decode (ab_code (zx σ n0 bf).1 8190) 350 = .ok (.iconst 0, 1) := zd zm_8190 (by decide +kernel)
theorem d_8190_351 {σ : Nat → Nat} {n0 : Nat} {bf : ab_B} : decode (ab_code (zx σ n0 bf).1 8190) 351 = .ok (.invokevirtual 649, 3) := zd zm_8190 (by decide +kernel)
theorem d_8190_354 {σ : Nat → Nat} {n0 : Nat} {bf : ab_B} : decode (ab_code (zx σ n0 bf).1 8190) 354 = .ok (.aload_n 0, 1) := zd zm_8190 (by decide +kernel)
theorem d_8190_355 {σ : Nat → Nat} {n0 : Nat} {bf : ab_B} : decode (ab_code (zx σ n0 bf).1 8190) 355 = .ok (.bipush 102, 2) := zd zm_8190 (by decide +kernel)
theorem d_8190_357 {σ : Nat → Nat} {n0 : Nat} {bf : ab_B} : decode (ab_code (zx σ n0 bf).1 8190) 357 = .ok (.iconst 0, 1) := zd zm_8190 (by decide +kernel)
theorem d_8190_358 {σ : Nat → Nat} {n0 : Nat} {bf : ab_B} : decode (ab_code (zx σ n0 bf).1 8190) 358 = .ok (.iconst 0, 1) := zd zm_8190 (by decide +kernel)
theorem d_8190_359 {σ : Nat → Nat} {n0 : Nat} {bf : ab_B} : decode (ab_code (zx σ n0 bf).1 8190) 359 = .ok (.iconst 0, 1) := zd zm_8190 (by decide +kernel)
theorem d_8190_360 {σ : Nat → Nat} {n0 : Nat} {bf : ab_B} : decode (ab_code (zx σ n0 bf).1 8190) 360 = .ok (.invokevirtual 649, 3) := zd zm_8190 (by decide +kernel)
theorem d_8190_363 {σ : Nat → Nat} {n0 : Nat} {bf : ab_B} : decode (ab_code (zx σ n0 bf).1 8190) 363 = .ok (.return_, 1) := zd zm_8190 (by decide +kernel)
def w_X9_caseLabel_28 (X : zs_X) (d : Nat)  (S : zs_T) (Q : zs_Q) : Prop :=
  (Q (.returned none) S)
theorem u_X9_caseLabel_28 {σ : Nat → Nat} {n0 : Nat} {bf : ab_B} {d : Nat}  {S : zs_T} {Q : zs_Q} (hB : zt_B bf) (h : w_X9_caseLabel_28 (zx σ n0 bf) d  S Q) : zs_U (zx σ n0 bf) d 8190 28 [] [] S Q := by
  unfold w_X9_caseLabel_28 at h
  exact zu_vret d_8190_28 zr_8190 h
def w_X9_caseLabel_146 (X : zs_X) (d : Nat) (p0 : Nat) (S : zs_T) (Q : zs_Q) : Prop :=
  (zs_K S p0 = some (.inl 8) ∧ zs_C X d 8027 [.ref p0, .int (9 : Int32)] S (zs_kV (fun S2 => (Q (.returned none) S2)) Q))
theorem u_X9_caseLabel_146 {σ : Nat → Nat} {n0 : Nat} {bf : ab_B} {d : Nat} {p0 : Nat} {S : zs_T} {Q : zs_Q} (hB : zt_B bf) (h : w_X9_caseLabel_146 (zx σ n0 bf) d p0 S Q) : zs_U (zx σ n0 bf) d 8190 146 [(0, .ref p0)] [] S Q := by
  unfold w_X9_caseLabel_146 at h
  refine zu_aload_n d_8190_146 rfl (zs_ra _) ?_
  refine zu_bipush d_8190_147 zj_9 ?_
  obtain ⟨k1, h⟩ := h
  refine zc_8_541 (x0 := (9 : Int32)) hB rfl k1 d_8190_149 (Nat.le_of_ble_eq_true rfl) h (fun S2 h => ?_)
  exact zu_vret d_8190_152 zr_8190 h
def w_X9_caseLabel_287 (X : zs_X) (d : Nat) (p0 : Nat) (p2 : Int32) (S : zs_T) (Q : zs_Q) : Prop :=
  (zs_K S p0 = some (.inl 8) ∧ ∃ b2, (zs_R S 8150 p0) = some b2 ∧ zs_A S b2 0 p2 ∧ zs_U X d 8190 295 [(0, .ref p0), (2, .int p2), (8, .int (zs_i S b2 p2.toNatClampNeg))] [] S Q)
theorem u_X9_caseLabel_287 {σ : Nat → Nat} {n0 : Nat} {bf : ab_B} {d : Nat} {p0 : Nat} {p2 : Int32} {S : zs_T} {Q : zs_Q} (hB : zt_B bf) (h : w_X9_caseLabel_287 (zx σ n0 bf) d p0 p2 S Q) : zs_U (zx σ n0 bf) d 8190 287 [(0, .ref p0), (2, .int p2)] [] S Q := by
  unfold w_X9_caseLabel_287 at h
  refine zu_aload_n d_8190_287 rfl (zs_ra _) ?_
  obtain ⟨k1, h⟩ := h
  refine zg_8_326 rfl d_8190_288 k1 ?_
  refine zu_iload_n d_8190_291 rfl ?_
  obtain ⟨b2, e3, h⟩ := h
  refine zs_stk1 (zs_rfe e3) ?_
  obtain ⟨k4, h⟩ := h
  refine zu_iald (k := 0) d_8190_292 rfl rfl k4 ?_
  refine zu_istore d_8190_293 (zs_lt zq_8190 rfl) ?_
  exact h.weak ⟨rfl, rfl, rfl, trivial⟩
def w_X9_caseLabel_265 (X : zs_X) (d : Nat)  (S : zs_T) (Q : zs_Q) : Prop :=
  (Q (.returned none) S)
theorem u_X9_caseLabel_265 {σ : Nat → Nat} {n0 : Nat} {bf : ab_B} {d : Nat}  {S : zs_T} {Q : zs_Q} (hB : zt_B bf) (h : w_X9_caseLabel_265 (zx σ n0 bf) d  S Q) : zs_U (zx σ n0 bf) d 8190 265 [] [] S Q := by
  unfold w_X9_caseLabel_265 at h
  exact zu_vret d_8190_265 zr_8190 h
def w_X9_caseLabel_235 (X : zs_X) (d : Nat) (p0 : Nat) (p2 : Int32) (S : zs_T) (Q : zs_Q) : Prop :=
  (zs_K S p0 = some (.inl 8) ∧ zs_C X d 8029 [.ref p0, .int (12 : Int32)] S (zs_kI (fun v3 S2 => (((v3 = 0 → (zs_K S2 p0 = some (.inl 8) ∧ zs_C X d 8028 [.ref p0, .int (14 : Int32)] S2 (zs_kV (fun S6 => (zs_K S6 p0 = some (.inl 8) ∧ zs_C X d 8012 [.ref p0, .int (80 : Int32), .int (0 : Int32), .int (0 : Int32), .int (0 : Int32)] S6 (zs_kI (fun v10 S9 => (∃ b11, (zs_R S6 8148 p0) = some b11 ∧ zs_A S9 b11 0 p2 ∧ ab_n0 X.1 ≤ b11 ∧ ∀ S15, S15 = zs_si S9 b11 p2.toNatClampNeg v10 → w_X9_caseLabel_287 X d p0 p2 S15 Q)) Q))) Q))) ∧ (¬ (v3 = 0) → (zs_K S2 p0 = some (.inl 8) ∧ zs_C X d 8014 [.ref p0] S2 (zs_kV (fun S19 => (zs_K S19 p0 = some (.inl 8) ∧ zs_C X d 8030 [.ref p0, .int (118 : Int32), .int (0 : Int32), .int (0 : Int32), .int (0 : Int32)] S19 (zs_kV (fun S22 => (zs_K S22 p0 = some (.inl 8) ∧ zs_C X d 8030 [.ref p0, .int (2 : Int32), .int (0 : Int32), .int (0 : Int32), .int (0 : Int32)] S22 (zs_kV (fun S25 => w_X9_caseLabel_265 X d  S25 Q) Q))) Q))) Q)))))) Q))
theorem u_X9_caseLabel_235 {σ : Nat → Nat} {n0 : Nat} {bf : ab_B} {d : Nat} {p0 : Nat} {p2 : Int32} {S : zs_T} {Q : zs_Q} (hB : zt_B bf) (h : w_X9_caseLabel_235 (zx σ n0 bf) d p0 p2 S Q) : zs_U (zx σ n0 bf) d 8190 235 [(0, .ref p0), (2, .int p2)] [] S Q := by
  unfold w_X9_caseLabel_235 at h
  refine zu_aload_n d_8190_235 rfl (zs_ra _) ?_
  refine zu_bipush d_8190_236 zj_12 ?_
  obtain ⟨k1, h⟩ := h
  refine zc_8_535 (x0 := (12 : Int32)) hB rfl k1 d_8190_238 (Nat.le_of_ble_eq_true rfl) h (fun v3 S2 h => ?_)
  refine zu_ifeq (t := 266) d_8190_241 rfl (fun c4 => ?_) (fun c4 => ?_)
  · have h := h.1 c4
    refine zu_aload_n d_8190_266 rfl (zs_ra _) ?_
    refine zu_bipush d_8190_267 zj_14 ?_
    obtain ⟨k5, h⟩ := h
    refine zc_8_746 (x0 := (14 : Int32)) hB rfl k5 d_8190_269 (Nat.le_of_ble_eq_true rfl) h (fun S6 h => ?_)
    refine zu_aload_n d_8190_272 rfl (zs_ra _) ?_
    obtain ⟨k8, h⟩ := h
    refine zg_8_320 rfl d_8190_273 k8 ?_
    refine zu_iload_n d_8190_276 rfl ?_
    refine zu_aload_n d_8190_277 rfl (zs_ra _) ?_
    refine zu_bipush d_8190_278 zj_80 ?_
    refine zu_iconst d_8190_280 zi_0 ?_
    refine zu_iconst d_8190_281 zi_0 ?_
    refine zu_iconst d_8190_282 zi_0 ?_
    refine zc_8_656 (x0 := (80 : Int32)) (x1 := (0 : Int32)) (x2 := (0 : Int32)) (x3 := (0 : Int32)) hB rfl k8 d_8190_283 (by simp only [List.map_cons, List.map_nil, List.sum_cons, List.sum_nil, zs_cat, zs_cI, zs_cJ, zs_cA]; exact Nat.le_of_ble_eq_true rfl) h (fun v10 S9 h => ?_)
    obtain ⟨b11, e12, h⟩ := h
    refine zs_stk2 (zs_rfe e12) ?_
    obtain ⟨k13, h⟩ := h
    obtain ⟨k14, h⟩ := h
    refine zu_iast (k := 0) d_8190_286 rfl rfl k14 k13 ?_
    generalize e16 : zs_si S9 b11 p2.toNatClampNeg v10 = S15
    have h := h S15 e16.symm
    have K17 : ∀ b, zs_K S15 b = zs_K S9 b := zs_Kt e16 (zs_Ksi _ _ _ _) (fun _ => rfl)
    exact (u_X9_caseLabel_287 hB h).weak ⟨rfl, rfl, trivial⟩
  · have h := h.2 c4
    refine zu_aload_n d_8190_244 rfl (zs_ra _) ?_
    obtain ⟨k18, h⟩ := h
    refine zc_8_538  hB rfl k18 d_8190_245 (Nat.le_of_ble_eq_true rfl) h (fun S19 h => ?_)
    refine zu_aload_n d_8190_248 rfl (zs_ra _) ?_
    refine zu_bipush d_8190_249 zj_118 ?_
    refine zu_iconst d_8190_251 zi_0 ?_
    refine zu_iconst d_8190_252 zi_0 ?_
    refine zu_iconst d_8190_253 zi_0 ?_
    obtain ⟨k21, h⟩ := h
    refine zc_8_649 (x0 := (118 : Int32)) (x1 := (0 : Int32)) (x2 := (0 : Int32)) (x3 := (0 : Int32)) hB rfl k21 d_8190_254 (Nat.le_of_ble_eq_true rfl) h (fun S22 h => ?_)
    refine zu_aload_n d_8190_257 rfl (zs_ra _) ?_
    refine zu_iconst d_8190_258 zi_2 ?_
    refine zu_iconst d_8190_259 zi_0 ?_
    refine zu_iconst d_8190_260 zi_0 ?_
    refine zu_iconst d_8190_261 zi_0 ?_
    obtain ⟨k24, h⟩ := h
    refine zc_8_649 (x0 := (2 : Int32)) (x1 := (0 : Int32)) (x2 := (0 : Int32)) (x3 := (0 : Int32)) hB rfl k24 d_8190_262 (Nat.le_of_ble_eq_true rfl) h (fun S25 h => ?_)
    exact (u_X9_caseLabel_265 hB h).weak trivial
def w_X9_caseLabel_202 (X : zs_X) (d : Nat) (p0 : Nat) (p2 : Int32) (S : zs_T) (Q : zs_Q) : Prop :=
  (zs_K S p0 = some (.inl 8) ∧ ∃ b2, (zs_R S 8147 p0) = some b2 ∧ zs_A S b2 0 p2 ∧ ab_n0 X.1 ≤ b2 ∧ ∀ S6, S6 = zs_si S b2 p2.toNatClampNeg (zs_I S 8077 p0) → ∃ b9, (zs_R S6 8150 p0) = some b9 ∧ zs_A S b9 0 p2 ∧ zs_C X d 8012 [.ref p0, .int (83 : Int32), .int (zs_i S6 b9 p2.toNatClampNeg), .int (zs_I S6 8077 p0), .int (0 : Int32)] S6 (zs_kI (fun v13 S12 => (zs_A S12 b9 0 p2 ∧ ab_n0 X.1 ≤ b9 ∧ ∀ S16, S16 = zs_si S12 b9 p2.toNatClampNeg v13 → w_X9_caseLabel_235 X d p0 p2 S16 Q)) Q))
theorem u_X9_caseLabel_202 {σ : Nat → Nat} {n0 : Nat} {bf : ab_B} {d : Nat} {p0 : Nat} {p2 : Int32} {S : zs_T} {Q : zs_Q} (hB : zt_B bf) (h : w_X9_caseLabel_202 (zx σ n0 bf) d p0 p2 S Q) : zs_U (zx σ n0 bf) d 8190 202 [(0, .ref p0), (2, .int p2)] [] S Q := by
  unfold w_X9_caseLabel_202 at h
  refine zu_aload_n d_8190_202 rfl (zs_ra _) ?_
  obtain ⟨k1, h⟩ := h
  refine zg_8_317 rfl d_8190_203 k1 ?_
  refine zu_iload_n d_8190_206 rfl ?_
  refine zu_aload_n d_8190_207 rfl (zs_ra _) ?_
  refine zg_8_593 rfl d_8190_208 k1 ?_
  obtain ⟨b2, e3, h⟩ := h
  refine zs_stk2 (zs_rfe e3) ?_
  obtain ⟨k4, h⟩ := h
  obtain ⟨k5, h⟩ := h
  refine zu_iast (k := 0) d_8190_211 rfl rfl k5 k4 ?_
  generalize e7 : zs_si S b2 p2.toNatClampNeg (zs_I S 8077 p0) = S6
  have h := h S6 e7.symm
  have K8 : ∀ b, zs_K S6 b = zs_K S b := zs_Kt e7 (zs_Ksi _ _ _ _) (fun _ => rfl)
  refine zu_aload_n d_8190_212 rfl (zs_ra _) ?_
  refine zg_8_326 rfl d_8190_213 ((K8 _).trans k1) ?_
  refine zu_iload_n d_8190_216 rfl ?_
  refine zu_aload_n d_8190_217 rfl (zs_ra _) ?_
  refine zu_bipush d_8190_218 zj_83 ?_
  refine zu_aload_n d_8190_220 rfl (zs_ra _) ?_
  refine zg_8_326 rfl d_8190_221 ((K8 _).trans k1) ?_
  refine zu_iload_n d_8190_224 rfl ?_
  obtain ⟨b9, e10, h⟩ := h
  refine zs_stk1 (zs_rfe e10) ?_
  obtain ⟨k11, h⟩ := h
  refine zu_iald (k := 0) d_8190_225 rfl rfl (zs_Ak K8 k11) ?_
  refine zu_aload_n d_8190_226 rfl (zs_ra _) ?_
  refine zg_8_593 rfl d_8190_227 ((K8 _).trans k1) ?_
  refine zu_iconst d_8190_230 zi_0 ?_
  refine zc_8_656 (x0 := (83 : Int32)) (x1 := (zs_i S6 b9 p2.toNatClampNeg)) (x2 := (zs_I S6 8077 p0)) (x3 := (0 : Int32)) hB rfl ((K8 _).trans k1) d_8190_231 (by simp only [List.map_cons, List.map_nil, List.sum_cons, List.sum_nil, zs_cat, zs_cI, zs_cJ, zs_cA]; exact Nat.le_of_ble_eq_true rfl) h (fun v13 S12 h => ?_)
  refine zs_stk2 (zs_rfe e10) ?_
  obtain ⟨k14, h⟩ := h
  obtain ⟨k15, h⟩ := h
  refine zu_iast (k := 0) d_8190_234 rfl rfl k15 k14 ?_
  generalize e17 : zs_si S12 b9 p2.toNatClampNeg v13 = S16
  have h := h S16 e17.symm
  have K18 : ∀ b, zs_K S16 b = zs_K S12 b := zs_Kt e17 (zs_Ksi _ _ _ _) (fun _ => rfl)
  exact (u_X9_caseLabel_235 hB h).weak ⟨rfl, rfl, trivial⟩
def w_X9_caseLabel_163 (X : zs_X) (d : Nat) (p0 : Nat) (p2 : Int32) (p4 : Int64) (p6 : Int64) (S : zs_T) (Q : zs_Q) : Prop :=
  (zs_K S p0 = some (.inl 8) ∧ ∃ b2, (zs_R S 8074 p0) = some b2 ∧ zs_A S b2 0 (zs_I S 8077 p0) ∧ ab_n0 X.1 ≤ b2 ∧ ∀ S6, S6 = zs_si S b2 (zs_I S 8077 p0).toNatClampNeg ((p6).toInt32) → ∃ b9, (zs_R S6 8075 p0) = some b9 ∧ zs_A S b9 0 (zs_I S6 8077 p0) ∧ ab_n0 X.1 ≤ b9 ∧ ∀ S13, S13 = zs_si S6 b9 (zs_I S6 8077 p0).toNatClampNeg ((p4).toInt32) → ∃ b16, (zs_R S13 8147 p0) = some b16 ∧ zs_A S b16 0 p2 ∧ ∃ b19, (zs_R S13 8076 p0) = some b19 ∧ zs_A S b19 0 (zs_I S13 8077 p0) ∧ ab_n0 X.1 ≤ b19 ∧ ∀ S23, S23 = zs_si S13 b19 (zs_I S13 8077 p0).toNatClampNeg (zs_i S13 b16 p2.toNatClampNeg) → w_X9_caseLabel_202 X d p0 p2 S23 Q)
theorem u_X9_caseLabel_163 {σ : Nat → Nat} {n0 : Nat} {bf : ab_B} {d : Nat} {p0 : Nat} {p2 : Int32} {p4 : Int64} {p6 : Int64} {S : zs_T} {Q : zs_Q} (hB : zt_B bf) (h : w_X9_caseLabel_163 (zx σ n0 bf) d p0 p2 p4 p6 S Q) : zs_U (zx σ n0 bf) d 8190 163 [(0, .ref p0), (2, .int p2), (4, .long p4), (6, .long p6)] [] S Q := by
  unfold w_X9_caseLabel_163 at h
  refine zu_aload_n d_8190_163 rfl (zs_ra _) ?_
  obtain ⟨k1, h⟩ := h
  refine zg_8_163 rfl d_8190_164 k1 ?_
  refine zu_aload_n d_8190_167 rfl (zs_ra _) ?_
  refine zg_8_593 rfl d_8190_168 k1 ?_
  refine zu_lload d_8190_171 rfl ?_
  refine zu_stk d_8190_173 rfl rfl ?_
  obtain ⟨b2, e3, h⟩ := h
  refine zs_stk2 (zs_rfe e3) ?_
  obtain ⟨k4, h⟩ := h
  obtain ⟨k5, h⟩ := h
  refine zu_iast (k := 0) d_8190_174 rfl rfl k5 k4 ?_
  generalize e7 : zs_si S b2 (zs_I S 8077 p0).toNatClampNeg ((p6).toInt32) = S6
  have h := h S6 e7.symm
  have K8 : ∀ b, zs_K S6 b = zs_K S b := zs_Kt e7 (zs_Ksi _ _ _ _) (fun _ => rfl)
  refine zu_aload_n d_8190_175 rfl (zs_ra _) ?_
  refine zg_8_166 rfl d_8190_176 ((K8 _).trans k1) ?_
  refine zu_aload_n d_8190_179 rfl (zs_ra _) ?_
  refine zg_8_593 rfl d_8190_180 ((K8 _).trans k1) ?_
  refine zu_lload d_8190_183 rfl ?_
  refine zu_stk d_8190_185 rfl rfl ?_
  obtain ⟨b9, e10, h⟩ := h
  refine zs_stk2 (zs_rfe e10) ?_
  obtain ⟨k11, h⟩ := h
  obtain ⟨k12, h⟩ := h
  refine zu_iast (k := 0) d_8190_186 rfl rfl k12 (zs_Ak K8 k11) ?_
  generalize e14 : zs_si S6 b9 (zs_I S6 8077 p0).toNatClampNeg ((p4).toInt32) = S13
  have h := h S13 e14.symm
  have K15 : ∀ b, zs_K S13 b = zs_K S b := zs_Kt e14 (zs_Ksi _ _ _ _) K8
  refine zu_aload_n d_8190_187 rfl (zs_ra _) ?_
  refine zg_8_169 rfl d_8190_188 ((K15 _).trans k1) ?_
  refine zu_aload_n d_8190_191 rfl (zs_ra _) ?_
  refine zg_8_593 rfl d_8190_192 ((K15 _).trans k1) ?_
  refine zu_aload_n d_8190_195 rfl (zs_ra _) ?_
  refine zg_8_317 rfl d_8190_196 ((K15 _).trans k1) ?_
  refine zu_iload_n d_8190_199 rfl ?_
  obtain ⟨b16, e17, h⟩ := h
  refine zs_stk1 (zs_rfe e17) ?_
  obtain ⟨k18, h⟩ := h
  refine zu_iald (k := 0) d_8190_200 rfl rfl (zs_Ak K15 k18) ?_
  obtain ⟨b19, e20, h⟩ := h
  refine zs_stk2 (zs_rfe e20) ?_
  obtain ⟨k21, h⟩ := h
  obtain ⟨k22, h⟩ := h
  refine zu_iast (k := 0) d_8190_201 rfl rfl k22 (zs_Ak K15 k21) ?_
  generalize e24 : zs_si S13 b19 (zs_I S13 8077 p0).toNatClampNeg (zs_i S13 b16 p2.toNatClampNeg) = S23
  have h := h S23 e24.symm
  have K25 : ∀ b, zs_K S23 b = zs_K S b := zs_Kt e24 (zs_Ksi _ _ _ _) K15
  exact (u_X9_caseLabel_202 hB h).weak ⟨rfl, rfl, trivial⟩
def w_X9_caseLabel_121 (X : zs_X) (d : Nat) (p0 : Nat) (p2 : Int32) (p4 : Int64) (p6 : Int64) (S : zs_T) (Q : zs_Q) : Prop :=
  (((p4 < p6 → w_X9_caseLabel_146 X d p0 S Q) ∧ (¬ (p4 < p6) → (zs_K S p0 = some (.inl 8) ∧ ∃ b3, (zs_R S 8147 p0) = some b3 ∧ zs_A S b3 0 p2 ∧ zs_C X d 8139 [.ref p0, .int (zs_i S b3 p2.toNatClampNeg), .long p6, .long p4] S (zs_kI (fun v7 S6 => (((v7 = 0 → (zs_K S6 p0 = some (.inl 8) ∧ ab_n0 X.1 ≤ p0 ∧ ∀ S11, S11 = zs_sI S6 8077 p0 ((zs_I S6 8077 p0) + (1 : Int32)) → w_X9_caseLabel_163 X d p0 p2 p4 p6 S11 Q)) ∧ (¬ (v7 = 0) → w_X9_caseLabel_146 X d p0 S6 Q)))) Q)))))
theorem u_X9_caseLabel_121 {σ : Nat → Nat} {n0 : Nat} {bf : ab_B} {d : Nat} {p0 : Nat} {p2 : Int32} {p4 : Int64} {p6 : Int64} {S : zs_T} {Q : zs_Q} (hB : zt_B bf) (h : w_X9_caseLabel_121 (zx σ n0 bf) d p0 p2 p4 p6 S Q) : zs_U (zx σ n0 bf) d 8190 121 [(0, .ref p0), (2, .int p2), (4, .long p4), (6, .long p6)] [] S Q := by
  unfold w_X9_caseLabel_121 at h
  refine zu_lload d_8190_121 rfl ?_
  refine zu_lload d_8190_123 rfl ?_
  refine zu_lgt (t := 146) d_8190_125 d_8190_126 rfl (fun c1 => ?_) (fun c1 => ?_)
  · have h := h.1 c1
    exact (u_X9_caseLabel_146 hB h).weak ⟨rfl, trivial⟩
  · have h := h.2 c1
    refine zu_aload_n d_8190_129 rfl (zs_ra _) ?_
    refine zu_aload_n d_8190_130 rfl (zs_ra _) ?_
    obtain ⟨k2, h⟩ := h
    refine zg_8_317 rfl d_8190_131 k2 ?_
    refine zu_iload_n d_8190_134 rfl ?_
    obtain ⟨b3, e4, h⟩ := h
    refine zs_stk1 (zs_rfe e4) ?_
    obtain ⟨k5, h⟩ := h
    refine zu_iald (k := 0) d_8190_135 rfl rfl k5 ?_
    refine zu_lload d_8190_136 rfl ?_
    refine zu_lload d_8190_138 rfl ?_
    refine zc_8_915 (x0 := (zs_i S b3 p2.toNatClampNeg)) (x1 := p6) (x2 := p4) hB rfl k2 d_8190_140 (Nat.le_of_ble_eq_true rfl) h (fun v7 S6 h => ?_)
    refine zu_ifeq (t := 153) d_8190_143 rfl (fun c8 => ?_) (fun c8 => ?_)
    · have h := h.1 c8
      refine zu_aload_n d_8190_153 rfl (zs_ra _) ?_
      refine zu_dup d_8190_154 rfl ?_
      obtain ⟨k9, h⟩ := h
      refine zg_8_593 rfl d_8190_155 k9 ?_
      refine zu_iconst d_8190_158 zi_1 ?_
      refine zu_stk d_8190_159 rfl rfl ?_
      obtain ⟨k10, h⟩ := h
      refine zp_8_593 (v := ((zs_I S6 8077 p0) + (1 : Int32))) rfl d_8190_160 k9 k10 ?_
      generalize e12 : zs_sI S6 8077 p0 ((zs_I S6 8077 p0) + (1 : Int32)) = S11
      have h := h S11 e12.symm
      have K13 : ∀ b, zs_K S11 b = zs_K S6 b := zs_Kt e12 (zs_KsI _ _ _ _) (fun _ => rfl)
      exact (u_X9_caseLabel_163 hB h).weak ⟨rfl, rfl, rfl, rfl, trivial⟩
    · have h := h.2 c8
      exact (u_X9_caseLabel_146 hB h).weak ⟨rfl, trivial⟩
def w_X9_caseLabel_99 (X : zs_X) (d : Nat) (p0 : Nat) (p1 : Int32) (p2 : Int32) (p4 : Int64) (q0 : Int64) (S : zs_T) (Q : zs_Q) : Prop :=
  (zs_K S p0 = some (.inl 8) ∧ ((¬ (zs_I S 8138 p0) = 0 → w_X9_caseLabel_146 X d p0 S Q) ∧ (¬ (¬ (zs_I S 8138 p0) = 0) → (((p1 = 0 → w_X9_caseLabel_121 X d p0 p2 p4 q0 S Q) ∧ (¬ (p1 = 0) → (∃ b4, (zs_R S 8152 p0) = some b4 ∧ zs_A S b4 2 p2 ∧ ((¬ (zs_i S b4 p2.toNatClampNeg) = 0 → w_X9_caseLabel_146 X d p0 S Q) ∧ (¬ (¬ (zs_i S b4 p2.toNatClampNeg) = 0) → w_X9_caseLabel_121 X d p0 p2 p4 q0 S Q)))))))))
theorem u_X9_caseLabel_99 {σ : Nat → Nat} {n0 : Nat} {bf : ab_B} {d : Nat} {p0 : Nat} {p1 : Int32} {p2 : Int32} {p4 : Int64} {q0 : Int64} {S : zs_T} {Q : zs_Q} (hB : zt_B bf) (h : w_X9_caseLabel_99 (zx σ n0 bf) d p0 p1 p2 p4 q0 S Q) : zs_U (zx σ n0 bf) d 8190 99 [(0, .ref p0), (1, .int p1), (2, .int p2), (4, .long p4)] [.long q0] S Q := by
  unfold w_X9_caseLabel_99 at h
  refine zu_lstore d_8190_99 (zs_lt zq_8190 rfl) ?_
  refine zu_aload_n d_8190_101 rfl (zs_ra _) ?_
  obtain ⟨k1, h⟩ := h
  refine zg_8_909 rfl d_8190_102 k1 ?_
  refine zu_ifne (t := 146) d_8190_105 rfl (fun c2 => ?_) (fun c2 => ?_)
  · have h := h.1 c2
    exact (u_X9_caseLabel_146 hB h).weak ⟨rfl, trivial⟩
  · have h := h.2 c2
    refine zu_iload_n d_8190_108 rfl ?_
    refine zu_ifeq (t := 121) d_8190_109 rfl (fun c3 => ?_) (fun c3 => ?_)
    · have h := h.1 c3
      exact (u_X9_caseLabel_121 hB h).weak ⟨rfl, rfl, rfl, rfl, trivial⟩
    · have h := h.2 c3
      refine zu_aload_n d_8190_112 rfl (zs_ra _) ?_
      refine zg_8_332 rfl d_8190_113 k1 ?_
      refine zu_iload_n d_8190_116 rfl ?_
      obtain ⟨b4, e5, h⟩ := h
      refine zs_stk1 (zs_rfe e5) ?_
      obtain ⟨k6, h⟩ := h
      refine zu_bald (k := 2) d_8190_117 rfl (Or.inr rfl) k6 ?_
      refine zu_ifne (t := 146) d_8190_118 rfl (fun c7 => ?_) (fun c7 => ?_)
      · have h := h.1 c7
        exact (u_X9_caseLabel_146 hB h).weak ⟨rfl, trivial⟩
      · have h := h.2 c7
        exact (u_X9_caseLabel_121 hB h).weak ⟨rfl, rfl, rfl, rfl, trivial⟩
def w_X9_caseLabel_83 (X : zs_X) (d : Nat) (p0 : Nat) (p1 : Int32) (p2 : Int32) (p4 : Int64) (S : zs_T) (Q : zs_Q) : Prop :=
  (((p1 = 0 → (w_X9_caseLabel_99 X d p0 p1 p2 p4 p4 S Q)) ∧ (¬ (p1 = 0) → (zs_K S p0 = some (.inl 8) ∧ ∃ b3, (zs_R S 8151 p0) = some b3 ∧ zs_A S b3 0 p2 ∧ w_X9_caseLabel_99 X d p0 p1 p2 p4 (((zs_i S b3 p2.toNatClampNeg)).toInt64) S Q))))
theorem u_X9_caseLabel_83 {σ : Nat → Nat} {n0 : Nat} {bf : ab_B} {d : Nat} {p0 : Nat} {p1 : Int32} {p2 : Int32} {p4 : Int64} {S : zs_T} {Q : zs_Q} (hB : zt_B bf) (h : w_X9_caseLabel_83 (zx σ n0 bf) d p0 p1 p2 p4 S Q) : zs_U (zx σ n0 bf) d 8190 83 [(0, .ref p0), (1, .int p1), (2, .int p2), (4, .long p4)] [] S Q := by
  unfold w_X9_caseLabel_83 at h
  refine zu_iload_n d_8190_83 rfl ?_
  refine zu_ifeq (t := 97) d_8190_84 rfl (fun c1 => ?_) (fun c1 => ?_)
  · have h := h.1 c1
    refine zu_lload d_8190_97 rfl ?_
    exact (u_X9_caseLabel_99 hB h).weak ⟨rfl, rfl, rfl, rfl, trivial⟩
  · have h := h.2 c1
    refine zu_aload_n d_8190_87 rfl (zs_ra _) ?_
    obtain ⟨k2, h⟩ := h
    refine zg_8_329 rfl d_8190_88 k2 ?_
    refine zu_iload_n d_8190_91 rfl ?_
    obtain ⟨b3, e4, h⟩ := h
    refine zs_stk1 (zs_rfe e4) ?_
    obtain ⟨k5, h⟩ := h
    refine zu_iald (k := 0) d_8190_92 rfl rfl k5 ?_
    refine zu_stk d_8190_93 rfl rfl ?_
    refine zu_goto (t := 99) d_8190_94 rfl ?_
    exact (u_X9_caseLabel_99 hB h).weak ⟨rfl, rfl, rfl, rfl, trivial⟩
def w_X9_caseLabel_61 (X : zs_X) (d : Nat) (p0 : Nat) (S : zs_T) (Q : zs_Q) : Prop :=
  (zs_K S p0 = some (.inl 8) ∧ zs_C X d 8030 [.ref p0, .int (119 : Int32), .int (0 : Int32), .int (0 : Int32), .int (0 : Int32)] S (zs_kV (fun S2 => (zs_K S2 p0 = some (.inl 8) ∧ zs_C X d 8030 [.ref p0, .int (2 : Int32), .int (0 : Int32), .int (0 : Int32), .int (0 : Int32)] S2 (zs_kV (fun S5 => (zs_K S5 p0 = some (.inl 8) ∧ zs_C X d 8014 [.ref p0] S5 (zs_kV (fun S8 => (Q (.returned none) S8)) Q))) Q))) Q))
theorem u_X9_caseLabel_61 {σ : Nat → Nat} {n0 : Nat} {bf : ab_B} {d : Nat} {p0 : Nat} {S : zs_T} {Q : zs_Q} (hB : zt_B bf) (h : w_X9_caseLabel_61 (zx σ n0 bf) d p0 S Q) : zs_U (zx σ n0 bf) d 8190 61 [(0, .ref p0)] [] S Q := by
  unfold w_X9_caseLabel_61 at h
  refine zu_aload_n d_8190_61 rfl (zs_ra _) ?_
  refine zu_bipush d_8190_62 zj_119 ?_
  refine zu_iconst d_8190_64 zi_0 ?_
  refine zu_iconst d_8190_65 zi_0 ?_
  refine zu_iconst d_8190_66 zi_0 ?_
  obtain ⟨k1, h⟩ := h
  refine zc_8_649 (x0 := (119 : Int32)) (x1 := (0 : Int32)) (x2 := (0 : Int32)) (x3 := (0 : Int32)) hB rfl k1 d_8190_67 (Nat.le_of_ble_eq_true rfl) h (fun S2 h => ?_)
  refine zu_aload_n d_8190_70 rfl (zs_ra _) ?_
  refine zu_iconst d_8190_71 zi_2 ?_
  refine zu_iconst d_8190_72 zi_0 ?_
  refine zu_iconst d_8190_73 zi_0 ?_
  refine zu_iconst d_8190_74 zi_0 ?_
  obtain ⟨k4, h⟩ := h
  refine zc_8_649 (x0 := (2 : Int32)) (x1 := (0 : Int32)) (x2 := (0 : Int32)) (x3 := (0 : Int32)) hB rfl k4 d_8190_75 (Nat.le_of_ble_eq_true rfl) h (fun S5 h => ?_)
  refine zu_aload_n d_8190_78 rfl (zs_ra _) ?_
  obtain ⟨k7, h⟩ := h
  refine zc_8_538  hB rfl k7 d_8190_79 (Nat.le_of_ble_eq_true rfl) h (fun S8 h => ?_)
  exact zu_vret d_8190_82 zr_8190 h
def w_X9_caseLabel_29 (X : zs_X) (d : Nat) (p0 : Nat) (p1 : Int32) (p2 : Int32) (p4 : Int64) (S : zs_T) (Q : zs_Q) : Prop :=
  (((¬ p1 = 0 → w_X9_caseLabel_83 X d p0 p1 p2 p4 S Q) ∧ (¬ (¬ p1 = 0) → (zs_K S p0 = some (.inl 8) ∧ zs_C X d 8029 [.ref p0, .int (21 : Int32)] S (zs_kI (fun v4 S3 => (((v4 = 0 → w_X9_caseLabel_83 X d p0 p1 p2 p4 S3 Q) ∧ (¬ (v4 = 0) → (zs_K S3 p0 = some (.inl 8) ∧ ∃ b7, (zs_R S3 8151 p0) = some b7 ∧ zs_A S3 b7 0 p2 ∧ ab_n0 X.1 ≤ b7 ∧ ∀ S11, S11 = zs_si S3 b7 p2.toNatClampNeg ((p4).toInt32) → ∃ b14, (zs_R S11 8152 p0) = some b14 ∧ zs_A S3 b14 2 p2 ∧ ab_n0 X.1 ≤ b14 ∧ ∀ S18, S18 = zs_si S11 b14 p2.toNatClampNeg (vp_nar .boolean (zs_I S11 8138 p0)) → w_X9_caseLabel_61 X d p0 S18 Q))))) Q)))))
theorem u_X9_caseLabel_29 {σ : Nat → Nat} {n0 : Nat} {bf : ab_B} {d : Nat} {p0 : Nat} {p1 : Int32} {p2 : Int32} {p4 : Int64} {S : zs_T} {Q : zs_Q} (hB : zt_B bf) (h : w_X9_caseLabel_29 (zx σ n0 bf) d p0 p1 p2 p4 S Q) : zs_U (zx σ n0 bf) d 8190 29 [(0, .ref p0), (1, .int p1), (2, .int p2), (4, .long p4)] [] S Q := by
  unfold w_X9_caseLabel_29 at h
  refine zu_iload_n d_8190_29 rfl ?_
  refine zu_ifne (t := 83) d_8190_30 rfl (fun c1 => ?_) (fun c1 => ?_)
  · have h := h.1 c1
    exact (u_X9_caseLabel_83 hB h).weak ⟨rfl, rfl, rfl, rfl, trivial⟩
  · have h := h.2 c1
    refine zu_aload_n d_8190_33 rfl (zs_ra _) ?_
    refine zu_bipush d_8190_34 zj_21 ?_
    obtain ⟨k2, h⟩ := h
    refine zc_8_535 (x0 := (21 : Int32)) hB rfl k2 d_8190_36 (Nat.le_of_ble_eq_true rfl) h (fun v4 S3 h => ?_)
    refine zu_ifeq (t := 83) d_8190_39 rfl (fun c5 => ?_) (fun c5 => ?_)
    · have h := h.1 c5
      exact (u_X9_caseLabel_83 hB h).weak ⟨rfl, rfl, rfl, rfl, trivial⟩
    · have h := h.2 c5
      refine zu_aload_n d_8190_42 rfl (zs_ra _) ?_
      obtain ⟨k6, h⟩ := h
      refine zg_8_329 rfl d_8190_43 k6 ?_
      refine zu_iload_n d_8190_46 rfl ?_
      refine zu_lload d_8190_47 rfl ?_
      refine zu_stk d_8190_49 rfl rfl ?_
      obtain ⟨b7, e8, h⟩ := h
      refine zs_stk2 (zs_rfe e8) ?_
      obtain ⟨k9, h⟩ := h
      obtain ⟨k10, h⟩ := h
      refine zu_iast (k := 0) d_8190_50 rfl rfl k10 k9 ?_
      generalize e12 : zs_si S3 b7 p2.toNatClampNeg ((p4).toInt32) = S11
      have h := h S11 e12.symm
      have K13 : ∀ b, zs_K S11 b = zs_K S3 b := zs_Kt e12 (zs_Ksi _ _ _ _) (fun _ => rfl)
      refine zu_aload_n d_8190_51 rfl (zs_ra _) ?_
      refine zg_8_332 rfl d_8190_52 ((K13 _).trans k6) ?_
      refine zu_iload_n d_8190_55 rfl ?_
      refine zu_aload_n d_8190_56 rfl (zs_ra _) ?_
      refine zg_8_909 rfl d_8190_57 ((K13 _).trans k6) ?_
      obtain ⟨b14, e15, h⟩ := h
      refine zs_stk2 (zs_rfe e15) ?_
      obtain ⟨k16, h⟩ := h
      obtain ⟨k17, h⟩ := h
      refine zu_bast_bool (k := 2) d_8190_60 rfl rfl k17 (zs_Ak K13 k16) ?_
      generalize e19 : zs_si S11 b14 p2.toNatClampNeg (vp_nar .boolean (zs_I S11 8138 p0)) = S18
      have h := h S18 e19.symm
      have K20 : ∀ b, zs_K S18 b = zs_K S3 b := zs_Kt e19 (zs_Ksi _ _ _ _) K13
      exact (u_X9_caseLabel_61 hB h).weak ⟨rfl, trivial⟩
def w_X9_caseLabel_354 (X : zs_X) (d : Nat) (p0 : Nat) (S : zs_T) (Q : zs_Q) : Prop :=
  (zs_K S p0 = some (.inl 8) ∧ zs_C X d 8030 [.ref p0, .int (102 : Int32), .int (0 : Int32), .int (0 : Int32), .int (0 : Int32)] S (zs_kV (fun S2 => (Q (.returned none) S2)) Q))
theorem u_X9_caseLabel_354 {σ : Nat → Nat} {n0 : Nat} {bf : ab_B} {d : Nat} {p0 : Nat} {S : zs_T} {Q : zs_Q} (hB : zt_B bf) (h : w_X9_caseLabel_354 (zx σ n0 bf) d p0 S Q) : zs_U (zx σ n0 bf) d 8190 354 [(0, .ref p0)] [] S Q := by
  unfold w_X9_caseLabel_354 at h
  refine zu_aload_n d_8190_354 rfl (zs_ra _) ?_
  refine zu_bipush d_8190_355 zj_102 ?_
  refine zu_iconst d_8190_357 zi_0 ?_
  refine zu_iconst d_8190_358 zi_0 ?_
  refine zu_iconst d_8190_359 zi_0 ?_
  obtain ⟨k1, h⟩ := h
  refine zc_8_649 (x0 := (102 : Int32)) (x1 := (0 : Int32)) (x2 := (0 : Int32)) (x3 := (0 : Int32)) hB rfl k1 d_8190_360 (Nat.le_of_ble_eq_true rfl) h (fun S2 h => ?_)
  exact zu_vret d_8190_363 zr_8190 h
def w_X9_caseLabel_295 (X : zs_X) (d : Nat) (p0 : Nat) (p2 : Int32) (p8 : Int32) (S : zs_T) (Q : zs_Q) : Prop :=
  (((p8 ≤ 0 → (zs_K S p0 = some (.inl 8) ∧ ∃ b3, (zs_R S 8150 p0) = some b3 ∧ zs_A S b3 0 p2 ∧ ab_n0 X.1 ≤ b3 ∧ ∀ S7, S7 = zs_si S b3 p2.toNatClampNeg (0 : Int32) → zs_C X d 8012 [.ref p0, .int (84 : Int32), .int (0 : Int32), .int (0 : Int32), .int (0 : Int32)] S7 (zs_kI (fun v11 S10 => (zs_K S10 p0 = some (.inl 8) ∧ zs_C X d 8030 [.ref p0, .int (120 : Int32), .int (0 : Int32), .int (0 : Int32), .int (0 : Int32)] S10 (zs_kV (fun S13 => w_X9_caseLabel_354 X d p0 S13 Q) Q))) Q))) ∧ (¬ (p8 ≤ 0) → (zs_K S p0 = some (.inl 8) ∧ ∃ b16, (zs_R S 8037 p0) = some b16 ∧ zs_A S b16 0 p8 ∧ ab_n0 X.1 ≤ b16 ∧ ∀ S20, S20 = zs_si S b16 p8.toNatClampNeg (zs_I S 8040 p0) → zs_U X d 8190 295 [(0, .ref p0), (2, .int p2), (8, .int (zs_i S b16 p8.toNatClampNeg))] [] S20 Q))))
theorem u_X9_caseLabel_295 {σ : Nat → Nat} {n0 : Nat} {bf : ab_B} {d : Nat} {p0 : Nat} {p2 : Int32} {p8 : Int32} {S : zs_T} {Q : zs_Q} (hB : zt_B bf) (h : w_X9_caseLabel_295 (zx σ n0 bf) d p0 p2 p8 S Q) : zs_U (zx σ n0 bf) d 8190 295 [(0, .ref p0), (2, .int p2), (8, .int p8)] [] S Q := by
  unfold w_X9_caseLabel_295 at h
  refine zu_iload d_8190_295 rfl ?_
  refine zu_ifle (t := 327) d_8190_297 rfl (fun c1 => ?_) (fun c1 => ?_)
  · have h := h.1 c1
    refine zu_aload_n d_8190_327 rfl (zs_ra _) ?_
    obtain ⟨k2, h⟩ := h
    refine zg_8_326 rfl d_8190_328 k2 ?_
    refine zu_iload_n d_8190_331 rfl ?_
    refine zu_iconst d_8190_332 zi_0 ?_
    obtain ⟨b3, e4, h⟩ := h
    refine zs_stk2 (zs_rfe e4) ?_
    obtain ⟨k5, h⟩ := h
    obtain ⟨k6, h⟩ := h
    refine zu_iast (k := 0) d_8190_333 rfl rfl k6 k5 ?_
    generalize e8 : zs_si S b3 p2.toNatClampNeg (0 : Int32) = S7
    have h := h S7 e8.symm
    have K9 : ∀ b, zs_K S7 b = zs_K S b := zs_Kt e8 (zs_Ksi _ _ _ _) (fun _ => rfl)
    refine zu_aload_n d_8190_334 rfl (zs_ra _) ?_
    refine zu_bipush d_8190_335 zj_84 ?_
    refine zu_iconst d_8190_337 zi_0 ?_
    refine zu_iconst d_8190_338 zi_0 ?_
    refine zu_iconst d_8190_339 zi_0 ?_
    refine zc_8_656 (x0 := (84 : Int32)) (x1 := (0 : Int32)) (x2 := (0 : Int32)) (x3 := (0 : Int32)) hB rfl ((K9 _).trans k2) d_8190_340 (Nat.le_of_ble_eq_true rfl) h (fun v11 S10 h => ?_)
    refine zu_istore d_8190_343 (zs_lt zq_8190 rfl) ?_
    refine zu_aload_n d_8190_345 rfl (zs_ra _) ?_
    refine zu_bipush d_8190_346 zj_120 ?_
    refine zu_iconst d_8190_348 zi_0 ?_
    refine zu_iconst d_8190_349 zi_0 ?_
    refine zu_iconst d_8190_350 zi_0 ?_
    obtain ⟨k12, h⟩ := h
    refine zc_8_649 (x0 := (120 : Int32)) (x1 := (0 : Int32)) (x2 := (0 : Int32)) (x3 := (0 : Int32)) hB rfl k12 d_8190_351 (Nat.le_of_ble_eq_true rfl) h (fun S13 h => ?_)
    exact (u_X9_caseLabel_354 hB h).weak ⟨rfl, trivial⟩
  · have h := h.2 c1
    refine zu_aload_n d_8190_300 rfl (zs_ra _) ?_
    obtain ⟨k15, h⟩ := h
    refine zg_8_75 rfl d_8190_301 k15 ?_
    refine zu_iload d_8190_304 rfl ?_
    obtain ⟨b16, e17, h⟩ := h
    refine zs_stk1 (zs_rfe e17) ?_
    obtain ⟨k18, h⟩ := h
    refine zu_iald (k := 0) d_8190_306 rfl rfl k18 ?_
    refine zu_istore d_8190_307 (zs_lt zq_8190 rfl) ?_
    refine zu_aload_n d_8190_309 rfl (zs_ra _) ?_
    refine zg_8_75 rfl d_8190_310 k15 ?_
    refine zu_iload d_8190_313 rfl ?_
    refine zu_aload_n d_8190_315 rfl (zs_ra _) ?_
    refine zg_8_556 rfl d_8190_316 k15 ?_
    refine zs_stk2 (zs_rfe e17) ?_
    obtain ⟨k19, h⟩ := h
    refine zu_iast (k := 0) d_8190_319 rfl rfl k19 k18 ?_
    generalize e21 : zs_si S b16 p8.toNatClampNeg (zs_I S 8040 p0) = S20
    have h := h S20 e21.symm
    have K22 : ∀ b, zs_K S20 b = zs_K S b := zs_Kt e21 (zs_Ksi _ _ _ _) (fun _ => rfl)
    refine zu_iload d_8190_320 rfl ?_
    refine zu_istore d_8190_322 (zs_lt zq_8190 rfl) ?_
    refine zu_goto (t := 295) d_8190_324 rfl ?_
    exact h.weak ⟨rfl, rfl, rfl, trivial⟩
def w_X9_caseLabel (X : zs_X) (d : Nat) (p0 : Nat) (p1 : Int32) (S : zs_T) (Q : zs_Q) : Prop :=
  (zs_K S p0 = some (.inl 8) ∧ ∃ b2, (zs_R S 8146 p0) = some b2 ∧ zs_A S b2 0 ((zs_I S 8153 p0) - (1 : Int32)) ∧ zs_C X d 8138 [.ref p0, .int (zs_i S b2 ((zs_I S 8153 p0) - (1 : Int32)).toNatClampNeg)] S (zs_kJ (fun v6 S5 => (zs_K S5 p0 = some (.inl 8) ∧ (((zs_I S5 8010 p0) ≤ 0 → w_X9_caseLabel_29 X d p0 p1 ((zs_I S 8153 p0) - (1 : Int32)) v6 S5 Q) ∧ (¬ ((zs_I S5 8010 p0) ≤ 0) → w_X9_caseLabel_28 X d  S5 Q)))) Q))
theorem u_X9_caseLabel {σ : Nat → Nat} {n0 : Nat} {bf : ab_B} {d : Nat} {p0 : Nat} {p1 : Int32} {S : zs_T} {Q : zs_Q} (hB : zt_B bf) (hd : 1 ≤ d) (h : w_X9_caseLabel (zx σ n0 bf) (d - 1) p0 p1 S Q) : zs_C (zx σ n0 bf) d 8190 [.ref p0, .int p1] S Q := by
  have hL : lv_args 0 [.ref p0, .int p1] = [(0, .ref p0), (1, .int p1)] := rfl
  refine zs_C.of1 (hB.2 8190 (by decide) (by decide)) hd (by rw [hL]; exact zs_sub_self _ (by exact ⟨rfl, rfl, trivial⟩)) ?_
  rw [hL]
  clear hL
  unfold w_X9_caseLabel at h
  refine zu_aload_n d_8190_0 rfl (zs_ra _) ?_
  obtain ⟨k1, h⟩ := h
  refine zg_8_983 rfl d_8190_1 k1 ?_
  refine zu_iconst d_8190_4 zi_1 ?_
  refine zu_stk d_8190_5 rfl rfl ?_
  refine zu_istore_n d_8190_6 (zs_lt zq_8190 rfl) ?_
  refine zu_aload_n d_8190_7 rfl (zs_ra _) ?_
  refine zg_8_314 rfl d_8190_8 k1 ?_
  refine zu_iload_n d_8190_11 rfl ?_
  obtain ⟨b2, e3, h⟩ := h
  refine zs_stk1 (zs_rfe e3) ?_
  obtain ⟨k4, h⟩ := h
  refine zu_iald (k := 0) d_8190_12 rfl rfl k4 ?_
  refine zu_istore_n d_8190_13 (zs_lt zq_8190 rfl) ?_
  refine zu_aload_n d_8190_14 rfl (zs_ra _) ?_
  refine zu_iload_n d_8190_15 rfl ?_
  refine zc_8_912 (x0 := (zs_i S b2 ((zs_I S 8153 p0) - (1 : Int32)).toNatClampNeg)) hB rfl k1 d_8190_16 (Nat.le_of_ble_eq_true rfl) h (fun v6 S5 h => ?_)
  refine zu_lstore d_8190_19 (zs_lt zq_8190 rfl) ?_
  refine zu_aload_n d_8190_21 rfl (zs_ra _) ?_
  obtain ⟨k7, h⟩ := h
  refine zg_8_444 rfl d_8190_22 k7 ?_
  refine zu_ifle (t := 29) d_8190_25 rfl (fun c8 => ?_) (fun c8 => ?_)
  · have h := h.1 c8
    exact (u_X9_caseLabel_29 hB h).weak ⟨rfl, rfl, rfl, rfl, trivial⟩
  · have h := h.2 c8
    exact (u_X9_caseLabel_28 hB h).weak trivial
/-! SchemaPascalModel.cased()V -/
theorem zm_8191 {σ : Nat → Nat} {n0 : Nat} {bf : ab_B} : ab_code (zx σ n0 bf).1 8191 = prog_17_method_182_code := rfl
theorem zq_8191 {σ : Nat → Nat} {n0 : Nat} {bf : ab_B} : ab_maxL (zx σ n0 bf).1 8191 = 2 := rfl
theorem zr_8191 {σ : Nat → Nat} {n0 : Nat} {bf : ab_B} : ab_ret (zx σ n0 bf).1 8191 = (Option.none : Option Jvm.ClassFile.FieldType) := rfl
theorem d_8191_0 {σ : Nat → Nat} {n0 : Nat} {bf : ab_B} : decode (ab_code (zx σ n0 bf).1 8191) 0 = .ok (.aload_n 0, 1) := zd zm_8191 (by decide +kernel)
theorem d_8191_1 {σ : Nat → Nat} {n0 : Nat} {bf : ab_B} : decode (ab_code (zx σ n0 bf).1 8191) 1 = .ok (.getfield 983, 3) := zd zm_8191 (by decide +kernel)
theorem d_8191_4 {σ : Nat → Nat} {n0 : Nat} {bf : ab_B} : decode (ab_code (zx σ n0 bf).1 8191) 4 = .ok (.iconst 1, 1) := zd zm_8191 (by decide +kernel)
theorem d_8191_5 {σ : Nat → Nat} {n0 : Nat} {bf : ab_B} : decode (ab_code (zx σ n0 bf).1 8191) 5 = .ok (.isub, 1) := zd zm_8191 (by decide +kernel)
theorem d_8191_6 {σ : Nat → Nat} {n0 : Nat} {bf : ab_B} : decode (ab_code (zx σ n0 bf).1 8191) 6 = .ok (.istore_n 1, 1) := zd zm_8191 (by decide +kernel)
theorem d_8191_7 {σ : Nat → Nat} {n0 : Nat} {bf : ab_B} : decode (ab_code (zx σ n0 bf).1 8191) 7 = .ok (.aload_n 0, 1) := zd zm_8191 (by decide +kernel)
theorem d_8191_8 {σ : Nat → Nat} {n0 : Nat} {bf : ab_B} : decode (ab_code (zx σ n0 bf).1 8191) 8 = .ok (.getfield 323, 3) := zd zm_8191 (by decide +kernel)
theorem d_8191_11 {σ : Nat → Nat} {n0 : Nat} {bf : ab_B} : decode (ab_code (zx σ n0 bf).1 8191) 11 = .ok (.iload_n 1, 1) := zd zm_8191 (by decide +kernel)
theorem d_8191_12 {σ : Nat → Nat} {n0 : Nat} {bf : ab_B} : decode (ab_code (zx σ n0 bf).1 8191) 12 = .ok (.aload_n 0, 1) := zd zm_8191 (by decide +kernel)
theorem d_8191_13 {σ : Nat → Nat} {n0 : Nat} {bf : ab_B} : decode (ab_code (zx σ n0 bf).1 8191) 13 = .ok (.bipush 80, 2) := zd zm_8191 (by decide +kernel)
theorem d_8191_15 {σ : Nat → Nat} {n0 : Nat} {bf : ab_B} : decode (ab_code (zx σ n0 bf).1 8191) 15 = .ok (.aload_n 0, 1) := zd zm_8191 (by decide +kernel)
theorem d_8191_16 {σ : Nat → Nat} {n0 : Nat} {bf : ab_B} : decode (ab_code (zx σ n0 bf).1 8191) 16 = .ok (.getfield 323, 3) := zd zm_8191 (by decide +kernel)
theorem d_8191_19 {σ : Nat → Nat} {n0 : Nat} {bf : ab_B} : decode (ab_code (zx σ n0 bf).1 8191) 19 = .ok (.iload_n 1, 1) := zd zm_8191 (by decide +kernel)
theorem d_8191_20 {σ : Nat → Nat} {n0 : Nat} {bf : ab_B} : decode (ab_code (zx σ n0 bf).1 8191) 20 = .ok (.iaload, 1) := zd zm_8191 (by decide +kernel)
theorem d_8191_21 {σ : Nat → Nat} {n0 : Nat} {bf : ab_B} : decode (ab_code (zx σ n0 bf).1 8191) 21 = .ok (.iconst 0, 1) := zd zm_8191 (by decide +kernel)
theorem d_8191_22 {σ : Nat → Nat} {n0 : Nat} {bf : ab_B} : decode (ab_code (zx σ n0 bf).1 8191) 22 = .ok (.iconst 0, 1) := zd zm_8191 (by decide +kernel)
theorem d_8191_23 {σ : Nat → Nat} {n0 : Nat} {bf : ab_B} : decode (ab_code (zx σ n0 bf).1 8191) 23 = .ok (.invokevirtual 656, 3) := zd zm_8191 (by decide +kernel)
theorem d_8191_26 {σ : Nat → Nat} {n0 : Nat} {bf : ab_B} : decode (ab_code (zx σ n0 bf).1 8191) 26 = .ok (.iastore, 1) := zd zm_8191 (by decide +kernel)
theorem d_8191_27 {σ : Nat → Nat} {n0 : Nat} {bf : ab_B} : decode (ab_code (zx σ n0 bf).1 8191) 27 = .ok (.aload_n 0, 1) := zd zm_8191 (by decide +kernel)
theorem d_8191_28 {σ : Nat → Nat} {n0 : Nat} {bf : ab_B} : decode (ab_code (zx σ n0 bf).1 8191) 28 = .ok (.getfield 75, 3) := zd zm_8191 (by decide +kernel)
theorem d_8191_31 {σ : Nat → Nat} {n0 : Nat} {bf : ab_B} : decode (ab_code (zx σ n0 bf).1 8191) 31 = .ok (.aload_n 0, 1) := zd zm_8191 (by decide +kernel)
theorem d_8191_32 {σ : Nat → Nat} {n0 : Nat} {bf : ab_B} : decode (ab_code (zx σ n0 bf).1 8191) 32 = .ok (.getfield 320, 3) := zd zm_8191 (by decide +kernel)
theorem d_8191_35 {σ : Nat → Nat} {n0 : Nat} {bf : ab_B} : decode (ab_code (zx σ n0 bf).1 8191) 35 = .ok (.iload_n 1, 1) := zd zm_8191 (by decide +kernel)
theorem d_8191_36 {σ : Nat → Nat} {n0 : Nat} {bf : ab_B} : decode (ab_code (zx σ n0 bf).1 8191) 36 = .ok (.iaload, 1) := zd zm_8191 (by decide +kernel)
theorem d_8191_37 {σ : Nat → Nat} {n0 : Nat} {bf : ab_B} : decode (ab_code (zx σ n0 bf).1 8191) 37 = .ok (.aload_n 0, 1) := zd zm_8191 (by decide +kernel)
theorem d_8191_38 {σ : Nat → Nat} {n0 : Nat} {bf : ab_B} : decode (ab_code (zx σ n0 bf).1 8191) 38 = .ok (.getfield 556, 3) := zd zm_8191 (by decide +kernel)
theorem d_8191_41 {σ : Nat → Nat} {n0 : Nat} {bf : ab_B} : decode (ab_code (zx σ n0 bf).1 8191) 41 = .ok (.iastore, 1) := zd zm_8191 (by decide +kernel)
theorem d_8191_42 {σ : Nat → Nat} {n0 : Nat} {bf : ab_B} : decode (ab_code (zx σ n0 bf).1 8191) 42 = .ok (.aload_n 0, 1) := zd zm_8191 (by decide +kernel)
theorem d_8191_43 {σ : Nat → Nat} {n0 : Nat} {bf : ab_B} : decode (ab_code (zx σ n0 bf).1 8191) 43 = .ok (.bipush 13, 2) := zd zm_8191 (by decide +kernel)
theorem d_8191_45 {σ : Nat → Nat} {n0 : Nat} {bf : ab_B} : decode (ab_code (zx σ n0 bf).1 8191) 45 = .ok (.invokevirtual 535, 3) := zd zm_8191 (by decide +kernel)
theorem d_8191_48 {σ : Nat → Nat} {n0 : Nat} {bf : ab_B} : decode (ab_code (zx σ n0 bf).1 8191) 48 = .ok (.ifCond .eq 49, 3) := zd zm_8191 (by decide +kernel)
theorem d_8191_51 {σ : Nat → Nat} {n0 : Nat} {bf : ab_B} : decode (ab_code (zx σ n0 bf).1 8191) 51 = .ok (.aload_n 0, 1) := zd zm_8191 (by decide +kernel)
theorem d_8191_52 {σ : Nat → Nat} {n0 : Nat} {bf : ab_B} : decode (ab_code (zx σ n0 bf).1 8191) 52 = .ok (.invokevirtual 538, 3) := zd zm_8191 (by decide +kernel)
theorem d_8191_55 {σ : Nat → Nat} {n0 : Nat} {bf : ab_B} : decode (ab_code (zx σ n0 bf).1 8191) 55 = .ok (.aload_n 0, 1) := zd zm_8191 (by decide +kernel)
theorem d_8191_56 {σ : Nat → Nat} {n0 : Nat} {bf : ab_B} : decode (ab_code (zx σ n0 bf).1 8191) 56 = .ok (.getfield 444, 3) := zd zm_8191 (by decide +kernel)
theorem d_8191_59 {σ : Nat → Nat} {n0 : Nat} {bf : ab_B} : decode (ab_code (zx σ n0 bf).1 8191) 59 = .ok (.ifCond .ne 38, 3) := zd zm_8191 (by decide +kernel)
theorem d_8191_62 {σ : Nat → Nat} {n0 : Nat} {bf : ab_B} : decode (ab_code (zx σ n0 bf).1 8191) 62 = .ok (.aload_n 0, 1) := zd zm_8191 (by decide +kernel)
theorem d_8191_63 {σ : Nat → Nat} {n0 : Nat} {bf : ab_B} : decode (ab_code (zx σ n0 bf).1 8191) 63 = .ok (.bipush 22, 2) := zd zm_8191 (by decide +kernel)
theorem d_8191_65 {σ : Nat → Nat} {n0 : Nat} {bf : ab_B} : decode (ab_code (zx σ n0 bf).1 8191) 65 = .ok (.invokevirtual 544, 3) := zd zm_8191 (by decide +kernel)
theorem d_8191_68 {σ : Nat → Nat} {n0 : Nat} {bf : ab_B} : decode (ab_code (zx σ n0 bf).1 8191) 68 = .ok (.ifCond .ne 29, 3) := zd zm_8191 (by decide +kernel)
theorem d_8191_71 {σ : Nat → Nat} {n0 : Nat} {bf : ab_B} : decode (ab_code (zx σ n0 bf).1 8191) 71 = .ok (.aload_n 0, 1) := zd zm_8191 (by decide +kernel)
theorem d_8191_72 {σ : Nat → Nat} {n0 : Nat} {bf : ab_B} : decode (ab_code (zx σ n0 bf).1 8191) 72 = .ok (.bipush 9, 2) := zd zm_8191 (by decide +kernel)
theorem d_8191_74 {σ : Nat → Nat} {n0 : Nat} {bf : ab_B} : decode (ab_code (zx σ n0 bf).1 8191) 74 = .ok (.invokevirtual 544, 3) := zd zm_8191 (by decide +kernel)
theorem d_8191_77 {σ : Nat → Nat} {n0 : Nat} {bf : ab_B} : decode (ab_code (zx σ n0 bf).1 8191) 77 = .ok (.ifCond .ne 20, 3) := zd zm_8191 (by decide +kernel)
theorem d_8191_80 {σ : Nat → Nat} {n0 : Nat} {bf : ab_B} : decode (ab_code (zx σ n0 bf).1 8191) 80 = .ok (.aload_n 0, 1) := zd zm_8191 (by decide +kernel)
theorem d_8191_81 {σ : Nat → Nat} {n0 : Nat} {bf : ab_B} : decode (ab_code (zx σ n0 bf).1 8191) 81 = .ok (.bipush 118, 2) := zd zm_8191 (by decide +kernel)
theorem d_8191_83 {σ : Nat → Nat} {n0 : Nat} {bf : ab_B} : decode (ab_code (zx σ n0 bf).1 8191) 83 = .ok (.iconst 0, 1) := zd zm_8191 (by decide +kernel)
theorem d_8191_84 {σ : Nat → Nat} {n0 : Nat} {bf : ab_B} : decode (ab_code (zx σ n0 bf).1 8191) 84 = .ok (.iconst 0, 1) := zd zm_8191 (by decide +kernel)
theorem d_8191_85 {σ : Nat → Nat} {n0 : Nat} {bf : ab_B} : decode (ab_code (zx σ n0 bf).1 8191) 85 = .ok (.iconst 0, 1) := zd zm_8191 (by decide +kernel)
theorem d_8191_86 {σ : Nat → Nat} {n0 : Nat} {bf : ab_B} : decode (ab_code (zx σ n0 bf).1 8191) 86 = .ok (.invokevirtual 649, 3) := zd zm_8191 (by decide +kernel)
theorem d_8191_89 {σ : Nat → Nat} {n0 : Nat} {bf : ab_B} : decode (ab_code (zx σ n0 bf).1 8191) 89 = .ok (.aload_n 0, 1) := zd zm_8191 (by decide +kernel)
theorem d_8191_90 {σ : Nat → Nat} {n0 : Nat} {bf : ab_B} : decode (ab_code (zx σ n0 bf).1 8191) 90 = .ok (.iconst 2, 1) := zd zm_8191 (by decide +kernel)
theorem d_8191_91 {σ : Nat → Nat} {n0 : Nat} {bf : ab_B} : decode (ab_code (zx σ n0 bf).1 8191) 91 = .ok (.iconst 0, 1) := zd zm_8191 (by decide +kernel)
theorem d_8191_92 {σ : Nat → Nat} {n0 : Nat} {bf : ab_B} : decode (ab_code (zx σ n0 bf).1 8191) 92 = .ok (.iconst 0, 1) := zd zm_8191 (by decide +kernel)
theorem d_8191_93 {σ : Nat → Nat} {n0 : Nat} {bf : ab_B} : decode (ab_code (zx σ n0 bf).1 8191) 93 = .ok (.iconst 0, 1) := zd zm_8191 (by decide +kernel)
theorem d_8191_94 {σ : Nat → Nat} {n0 : Nat} {bf : ab_B} : decode (ab_code (zx σ n0 bf).1 8191) 94 = .ok (.invokevirtual 649, 3) := zd zm_8191 (by decide +kernel)
theorem d_8191_97 {σ : Nat → Nat} {n0 : Nat} {bf : ab_B} : decode (ab_code (zx σ n0 bf).1 8191) 97 = .ok (.return_, 1) := zd zm_8191 (by decide +kernel)
def w_X9_cased_97 (X : zs_X) (d : Nat)  (S : zs_T) (Q : zs_Q) : Prop :=
  (Q (.returned none) S)
theorem u_X9_cased_97 {σ : Nat → Nat} {n0 : Nat} {bf : ab_B} {d : Nat}  {S : zs_T} {Q : zs_Q} (hB : zt_B bf) (h : w_X9_cased_97 (zx σ n0 bf) d  S Q) : zs_U (zx σ n0 bf) d 8191 97 [] [] S Q := by
  unfold w_X9_cased_97 at h
  exact zu_vret d_8191_97 zr_8191 h
def w_X9_cased_62 (X : zs_X) (d : Nat) (p0 : Nat) (S : zs_T) (Q : zs_Q) : Prop :=
  (zs_K S p0 = some (.inl 8) ∧ zs_C X d 8026 [.ref p0, .int (22 : Int32)] S (zs_kI (fun v3 S2 => (((¬ v3 = 0 → w_X9_cased_97 X d  S2 Q) ∧ (¬ (¬ v3 = 0) → (zs_K S2 p0 = some (.inl 8) ∧ zs_C X d 8026 [.ref p0, .int (9 : Int32)] S2 (zs_kI (fun v7 S6 => (((¬ v7 = 0 → w_X9_cased_97 X d  S6 Q) ∧ (¬ (¬ v7 = 0) → (zs_K S6 p0 = some (.inl 8) ∧ zs_C X d 8030 [.ref p0, .int (118 : Int32), .int (0 : Int32), .int (0 : Int32), .int (0 : Int32)] S6 (zs_kV (fun S10 => (zs_K S10 p0 = some (.inl 8) ∧ zs_C X d 8030 [.ref p0, .int (2 : Int32), .int (0 : Int32), .int (0 : Int32), .int (0 : Int32)] S10 (zs_kV (fun S13 => w_X9_cased_97 X d  S13 Q) Q))) Q)))))) Q)))))) Q))
theorem u_X9_cased_62 {σ : Nat → Nat} {n0 : Nat} {bf : ab_B} {d : Nat} {p0 : Nat} {S : zs_T} {Q : zs_Q} (hB : zt_B bf) (h : w_X9_cased_62 (zx σ n0 bf) d p0 S Q) : zs_U (zx σ n0 bf) d 8191 62 [(0, .ref p0)] [] S Q := by
  unfold w_X9_cased_62 at h
  refine zu_aload_n d_8191_62 rfl (zs_ra _) ?_
  refine zu_bipush d_8191_63 zj_22 ?_
  obtain ⟨k1, h⟩ := h
  refine zc_8_544 (x0 := (22 : Int32)) hB rfl k1 d_8191_65 (Nat.le_of_ble_eq_true rfl) h (fun v3 S2 h => ?_)
  refine zu_ifne (t := 97) d_8191_68 rfl (fun c4 => ?_) (fun c4 => ?_)
  · have h := h.1 c4
    exact (u_X9_cased_97 hB h).weak trivial
  · have h := h.2 c4
    refine zu_aload_n d_8191_71 rfl (zs_ra _) ?_
    refine zu_bipush d_8191_72 zj_9 ?_
    obtain ⟨k5, h⟩ := h
    refine zc_8_544 (x0 := (9 : Int32)) hB rfl k5 d_8191_74 (Nat.le_of_ble_eq_true rfl) h (fun v7 S6 h => ?_)
    refine zu_ifne (t := 97) d_8191_77 rfl (fun c8 => ?_) (fun c8 => ?_)
    · have h := h.1 c8
      exact (u_X9_cased_97 hB h).weak trivial
    · have h := h.2 c8
      refine zu_aload_n d_8191_80 rfl (zs_ra _) ?_
      refine zu_bipush d_8191_81 zj_118 ?_
      refine zu_iconst d_8191_83 zi_0 ?_
      refine zu_iconst d_8191_84 zi_0 ?_
      refine zu_iconst d_8191_85 zi_0 ?_
      obtain ⟨k9, h⟩ := h
      refine zc_8_649 (x0 := (118 : Int32)) (x1 := (0 : Int32)) (x2 := (0 : Int32)) (x3 := (0 : Int32)) hB rfl k9 d_8191_86 (Nat.le_of_ble_eq_true rfl) h (fun S10 h => ?_)
      refine zu_aload_n d_8191_89 rfl (zs_ra _) ?_
      refine zu_iconst d_8191_90 zi_2 ?_
      refine zu_iconst d_8191_91 zi_0 ?_
      refine zu_iconst d_8191_92 zi_0 ?_
      refine zu_iconst d_8191_93 zi_0 ?_
      obtain ⟨k12, h⟩ := h
      refine zc_8_649 (x0 := (2 : Int32)) (x1 := (0 : Int32)) (x2 := (0 : Int32)) (x3 := (0 : Int32)) hB rfl k12 d_8191_94 (Nat.le_of_ble_eq_true rfl) h (fun S13 h => ?_)
      exact (u_X9_cased_97 hB h).weak trivial
def w_X9_cased_27 (X : zs_X) (d : Nat) (p0 : Nat) (p1 : Int32) (S : zs_T) (Q : zs_Q) : Prop :=
  (zs_K S p0 = some (.inl 8) ∧ ∃ b2, (zs_R S 8148 p0) = some b2 ∧ zs_A S b2 0 p1 ∧ ∃ b5, (zs_R S 8037 p0) = some b5 ∧ zs_A S b5 0 (zs_i S b2 p1.toNatClampNeg) ∧ ab_n0 X.1 ≤ b5 ∧ ∀ S9, S9 = zs_si S b5 (zs_i S b2 p1.toNatClampNeg).toNatClampNeg (zs_I S 8040 p0) → zs_C X d 8029 [.ref p0, .int (13 : Int32)] S9 (zs_kI (fun v13 S12 => (((v13 = 0 → w_X9_cased_97 X d  S12 Q) ∧ (¬ (v13 = 0) → (zs_K S12 p0 = some (.inl 8) ∧ zs_C X d 8014 [.ref p0] S12 (zs_kV (fun S16 => (zs_K S16 p0 = some (.inl 8) ∧ ((¬ (zs_I S16 8010 p0) = 0 → w_X9_cased_97 X d  S16 Q) ∧ (¬ (¬ (zs_I S16 8010 p0) = 0) → w_X9_cased_62 X d p0 S16 Q)))) Q)))))) Q))
theorem u_X9_cased_27 {σ : Nat → Nat} {n0 : Nat} {bf : ab_B} {d : Nat} {p0 : Nat} {p1 : Int32} {S : zs_T} {Q : zs_Q} (hB : zt_B bf) (h : w_X9_cased_27 (zx σ n0 bf) d p0 p1 S Q) : zs_U (zx σ n0 bf) d 8191 27 [(0, .ref p0), (1, .int p1)] [] S Q := by
  unfold w_X9_cased_27 at h
  refine zu_aload_n d_8191_27 rfl (zs_ra _) ?_
  obtain ⟨k1, h⟩ := h
  refine zg_8_75 rfl d_8191_28 k1 ?_
  refine zu_aload_n d_8191_31 rfl (zs_ra _) ?_
  refine zg_8_320 rfl d_8191_32 k1 ?_
  refine zu_iload_n d_8191_35 rfl ?_
  obtain ⟨b2, e3, h⟩ := h
  refine zs_stk1 (zs_rfe e3) ?_
  obtain ⟨k4, h⟩ := h
  refine zu_iald (k := 0) d_8191_36 rfl rfl k4 ?_
  refine zu_aload_n d_8191_37 rfl (zs_ra _) ?_
  refine zg_8_556 rfl d_8191_38 k1 ?_
  obtain ⟨b5, e6, h⟩ := h
  refine zs_stk2 (zs_rfe e6) ?_
  obtain ⟨k7, h⟩ := h
  obtain ⟨k8, h⟩ := h
  refine zu_iast (k := 0) d_8191_41 rfl rfl k8 k7 ?_
  generalize e10 : zs_si S b5 (zs_i S b2 p1.toNatClampNeg).toNatClampNeg (zs_I S 8040 p0) = S9
  have h := h S9 e10.symm
  have K11 : ∀ b, zs_K S9 b = zs_K S b := zs_Kt e10 (zs_Ksi _ _ _ _) (fun _ => rfl)
  refine zu_aload_n d_8191_42 rfl (zs_ra _) ?_
  refine zu_bipush d_8191_43 zj_13 ?_
  refine zc_8_535 (x0 := (13 : Int32)) hB rfl ((K11 _).trans k1) d_8191_45 (Nat.le_of_ble_eq_true rfl) h (fun v13 S12 h => ?_)
  refine zu_ifeq (t := 97) d_8191_48 rfl (fun c14 => ?_) (fun c14 => ?_)
  · have h := h.1 c14
    exact (u_X9_cased_97 hB h).weak trivial
  · have h := h.2 c14
    refine zu_aload_n d_8191_51 rfl (zs_ra _) ?_
    obtain ⟨k15, h⟩ := h
    refine zc_8_538  hB rfl k15 d_8191_52 (Nat.le_of_ble_eq_true rfl) h (fun S16 h => ?_)
    refine zu_aload_n d_8191_55 rfl (zs_ra _) ?_
    obtain ⟨k18, h⟩ := h
    refine zg_8_444 rfl d_8191_56 k18 ?_
    refine zu_ifne (t := 97) d_8191_59 rfl (fun c19 => ?_) (fun c19 => ?_)
    · have h := h.1 c19
      exact (u_X9_cased_97 hB h).weak trivial
    · have h := h.2 c19
      exact (u_X9_cased_62 hB h).weak ⟨rfl, trivial⟩
def w_X9_cased (X : zs_X) (d : Nat) (p0 : Nat) (S : zs_T) (Q : zs_Q) : Prop :=
  (zs_K S p0 = some (.inl 8) ∧ ∃ b2, (zs_R S 8149 p0) = some b2 ∧ zs_A S b2 0 ((zs_I S 8153 p0) - (1 : Int32)) ∧ zs_C X d 8012 [.ref p0, .int (80 : Int32), .int (zs_i S b2 ((zs_I S 8153 p0) - (1 : Int32)).toNatClampNeg), .int (0 : Int32), .int (0 : Int32)] S (zs_kI (fun v6 S5 => (zs_A S5 b2 0 ((zs_I S 8153 p0) - (1 : Int32)) ∧ ab_n0 X.1 ≤ b2 ∧ ∀ S9, S9 = zs_si S5 b2 ((zs_I S 8153 p0) - (1 : Int32)).toNatClampNeg v6 → w_X9_cased_27 X d p0 ((zs_I S 8153 p0) - (1 : Int32)) S9 Q)) Q))
theorem u_X9_cased {σ : Nat → Nat} {n0 : Nat} {bf : ab_B} {d : Nat} {p0 : Nat} {S : zs_T} {Q : zs_Q} (hB : zt_B bf) (hd : 1 ≤ d) (h : w_X9_cased (zx σ n0 bf) (d - 1) p0 S Q) : zs_C (zx σ n0 bf) d 8191 [.ref p0] S Q := by
  have hL : lv_args 0 [.ref p0] = [(0, .ref p0)] := rfl
  refine zs_C.of1 (hB.2 8191 (by decide) (by decide)) hd (by rw [hL]; exact zs_sub_self _ (by exact ⟨rfl, trivial⟩)) ?_
  rw [hL]
  clear hL
  unfold w_X9_cased at h
  refine zu_aload_n d_8191_0 rfl (zs_ra _) ?_
  obtain ⟨k1, h⟩ := h
  refine zg_8_983 rfl d_8191_1 k1 ?_
  refine zu_iconst d_8191_4 zi_1 ?_
  refine zu_stk d_8191_5 rfl rfl ?_
  refine zu_istore_n d_8191_6 (zs_lt zq_8191 rfl) ?_
  refine zu_aload_n d_8191_7 rfl (zs_ra _) ?_
  refine zg_8_323 rfl d_8191_8 k1 ?_
  refine zu_iload_n d_8191_11 rfl ?_
  refine zu_aload_n d_8191_12 rfl (zs_ra _) ?_
  refine zu_bipush d_8191_13 zj_80 ?_
  refine zu_aload_n d_8191_15 rfl (zs_ra _) ?_
  refine zg_8_323 rfl d_8191_16 k1 ?_
  refine zu_iload_n d_8191_19 rfl ?_
  obtain ⟨b2, e3, h⟩ := h
  refine zs_stk1 (zs_rfe e3) ?_
  obtain ⟨k4, h⟩ := h
  refine zu_iald (k := 0) d_8191_20 rfl rfl k4 ?_
  refine zu_iconst d_8191_21 zi_0 ?_
  refine zu_iconst d_8191_22 zi_0 ?_
  refine zc_8_656 (x0 := (80 : Int32)) (x1 := (zs_i S b2 ((zs_I S 8153 p0) - (1 : Int32)).toNatClampNeg)) (x2 := (0 : Int32)) (x3 := (0 : Int32)) hB rfl k1 d_8191_23 (by simp only [List.map_cons, List.map_nil, List.sum_cons, List.sum_nil, zs_cat, zs_cI, zs_cJ, zs_cA]; exact Nat.le_of_ble_eq_true rfl) h (fun v6 S5 h => ?_)
  refine zs_stk2 (zs_rfe e3) ?_
  obtain ⟨k7, h⟩ := h
  obtain ⟨k8, h⟩ := h
  refine zu_iast (k := 0) d_8191_26 rfl rfl k8 k7 ?_
  generalize e10 : zs_si S5 b2 ((zs_I S 8153 p0) - (1 : Int32)).toNatClampNeg v6 = S9
  have h := h S9 e10.symm
  have K11 : ∀ b, zs_K S9 b = zs_K S5 b := zs_Kt e10 (zs_Ksi _ _ _ _) (fun _ => rfl)
  exact (u_X9_cased_27 hB h).weak ⟨rfl, rfl, trivial⟩
/-! SchemaPascalModel.caseEnd(IZ)V -/
theorem zm_8192 {σ : Nat → Nat} {n0 : Nat} {bf : ab_B} : ab_code (zx σ n0 bf).1 8192 = prog_17_method_183_code := rfl
theorem zq_8192 {σ : Nat → Nat} {n0 : Nat} {bf : ab_B} : ab_maxL (zx σ n0 bf).1 8192 = 5 := rfl
theorem zr_8192 {σ : Nat → Nat} {n0 : Nat} {bf : ab_B} : ab_ret (zx σ n0 bf).1 8192 = (Option.none : Option Jvm.ClassFile.FieldType) := rfl
theorem d_8192_0 {σ : Nat → Nat} {n0 : Nat} {bf : ab_B} : decode (ab_code (zx σ n0 bf).1 8192) 0 = .ok (.iload_n 2, 1) := zd zm_8192 (by decide +kernel)
theorem d_8192_1 {σ : Nat → Nat} {n0 : Nat} {bf : ab_B} : decode (ab_code (zx σ n0 bf).1 8192) 1 = .ok (.ifCond .ne 45, 3) := zd zm_8192 (by decide +kernel)
theorem d_8192_4 {σ : Nat → Nat} {n0 : Nat} {bf : ab_B} : decode (ab_code (zx σ n0 bf).1 8192) 4 = .ok (.aload_n 0, 1) := zd zm_8192 (by decide +kernel)
theorem d_8192_5 {σ : Nat → Nat} {n0 : Nat} {bf : ab_B} : decode (ab_code (zx σ n0 bf).1 8192) 5 = .ok (.bipush 22, 2) := zd zm_8192 (by decide +kernel)
theorem d_8192_7 {σ : Nat → Nat} {n0 : Nat} {bf : ab_B} : decode (ab_code (zx σ n0 bf).1 8192) 7 = .ok (.invokevirtual 544, 3) := zd zm_8192 (by decide +kernel)
theorem d_8192_10 {σ : Nat → Nat} {n0 : Nat} {bf : ab_B} : decode (ab_code (zx σ n0 bf).1 8192) 10 = .ok (.ifCond .eq 36, 3) := zd zm_8192 (by decide +kernel)
theorem d_8192_13 {σ : Nat → Nat} {n0 : Nat} {bf : ab_B} : decode (ab_code (zx σ n0 bf).1 8192) 13 = .ok (.aload_n 0, 1) := zd zm_8192 (by decide +kernel)
theorem d_8192_14 {σ : Nat → Nat} {n0 : Nat} {bf : ab_B} : decode (ab_code (zx σ n0 bf).1 8192) 14 = .ok (.bipush 84, 2) := zd zm_8192 (by decide +kernel)
theorem d_8192_16 {σ : Nat → Nat} {n0 : Nat} {bf : ab_B} : decode (ab_code (zx σ n0 bf).1 8192) 16 = .ok (.iconst 0, 1) := zd zm_8192 (by decide +kernel)
theorem d_8192_17 {σ : Nat → Nat} {n0 : Nat} {bf : ab_B} : decode (ab_code (zx σ n0 bf).1 8192) 17 = .ok (.iconst 0, 1) := zd zm_8192 (by decide +kernel)
theorem d_8192_18 {σ : Nat → Nat} {n0 : Nat} {bf : ab_B} : decode (ab_code (zx σ n0 bf).1 8192) 18 = .ok (.iconst 0, 1) := zd zm_8192 (by decide +kernel)
theorem d_8192_19 {σ : Nat → Nat} {n0 : Nat} {bf : ab_B} : decode (ab_code (zx σ n0 bf).1 8192) 19 = .ok (.invokevirtual 656, 3) := zd zm_8192 (by decide +kernel)
theorem d_8192_22 {σ : Nat → Nat} {n0 : Nat} {bf : ab_B} : decode (ab_code (zx σ n0 bf).1 8192) 22 = .ok (.istore_n 3, 1) := zd zm_8192 (by decide +kernel)
theorem d_8192_23 {σ : Nat → Nat} {n0 : Nat} {bf : ab_B} : decode (ab_code (zx σ n0 bf).1 8192) 23 = .ok (.aload_n 0, 1) := zd zm_8192 (by decide +kernel)
theorem d_8192_24 {σ : Nat → Nat} {n0 : Nat} {bf : ab_B} : decode (ab_code (zx σ n0 bf).1 8192) 24 = .ok (.invokevirtual 538, 3) := zd zm_8192 (by decide +kernel)
theorem d_8192_27 {σ : Nat → Nat} {n0 : Nat} {bf : ab_B} : decode (ab_code (zx σ n0 bf).1 8192) 27 = .ok (.aload_n 0, 1) := zd zm_8192 (by decide +kernel)
theorem d_8192_28 {σ : Nat → Nat} {n0 : Nat} {bf : ab_B} : decode (ab_code (zx σ n0 bf).1 8192) 28 = .ok (.bipush 121, 2) := zd zm_8192 (by decide +kernel)
theorem d_8192_30 {σ : Nat → Nat} {n0 : Nat} {bf : ab_B} : decode (ab_code (zx σ n0 bf).1 8192) 30 = .ok (.iload_n 1, 1) := zd zm_8192 (by decide +kernel)
theorem d_8192_31 {σ : Nat → Nat} {n0 : Nat} {bf : ab_B} : decode (ab_code (zx σ n0 bf).1 8192) 31 = .ok (.iconst 1, 1) := zd zm_8192 (by decide +kernel)
theorem d_8192_32 {σ : Nat → Nat} {n0 : Nat} {bf : ab_B} : decode (ab_code (zx σ n0 bf).1 8192) 32 = .ok (.iconst 0, 1) := zd zm_8192 (by decide +kernel)
theorem d_8192_33 {σ : Nat → Nat} {n0 : Nat} {bf : ab_B} : decode (ab_code (zx σ n0 bf).1 8192) 33 = .ok (.invokevirtual 649, 3) := zd zm_8192 (by decide +kernel)
theorem d_8192_36 {σ : Nat → Nat} {n0 : Nat} {bf : ab_B} : decode (ab_code (zx σ n0 bf).1 8192) 36 = .ok (.aload_n 0, 1) := zd zm_8192 (by decide +kernel)
theorem d_8192_37 {σ : Nat → Nat} {n0 : Nat} {bf : ab_B} : decode (ab_code (zx σ n0 bf).1 8192) 37 = .ok (.bipush 100, 2) := zd zm_8192 (by decide +kernel)
theorem d_8192_39 {σ : Nat → Nat} {n0 : Nat} {bf : ab_B} : decode (ab_code (zx σ n0 bf).1 8192) 39 = .ok (.iconst 0, 1) := zd zm_8192 (by decide +kernel)
theorem d_8192_40 {σ : Nat → Nat} {n0 : Nat} {bf : ab_B} : decode (ab_code (zx σ n0 bf).1 8192) 40 = .ok (.iconst 0, 1) := zd zm_8192 (by decide +kernel)
theorem d_8192_41 {σ : Nat → Nat} {n0 : Nat} {bf : ab_B} : decode (ab_code (zx σ n0 bf).1 8192) 41 = .ok (.iconst 0, 1) := zd zm_8192 (by decide +kernel)
theorem d_8192_42 {σ : Nat → Nat} {n0 : Nat} {bf : ab_B} : decode (ab_code (zx σ n0 bf).1 8192) 42 = .ok (.invokevirtual 649, 3) := zd zm_8192 (by decide +kernel)
theorem d_8192_45 {σ : Nat → Nat} {n0 : Nat} {bf : ab_B} : decode (ab_code (zx σ n0 bf).1 8192) 45 = .ok (.return_, 1) := zd zm_8192 (by decide +kernel)
theorem d_8192_46 {σ : Nat → Nat} {n0 : Nat} {bf : ab_B} : decode (ab_code (zx σ n0 bf).1 8192) 46 = .ok (.iload_n 2, 1) := zd zm_8192 (by decide +kernel)
theorem d_8192_47 {σ : Nat → Nat} {n0 : Nat} {bf : ab_B} : decode (ab_code (zx σ n0 bf).1 8192) 47 = .ok (.ifCond .ne 13, 3) := zd zm_8192 (by decide +kernel)
theorem d_8192_50 {σ : Nat → Nat} {n0 : Nat} {bf : ab_B} : decode (ab_code (zx σ n0 bf).1 8192) 50 = .ok (.aload_n 0, 1) := zd zm_8192 (by decide +kernel)
theorem d_8192_51 {σ : Nat → Nat} {n0 : Nat} {bf : ab_B} : decode (ab_code (zx σ n0 bf).1 8192) 51 = .ok (.bipush 85, 2) := zd zm_8192 (by decide +kernel)
theorem d_8192_53 {σ : Nat → Nat} {n0 : Nat} {bf : ab_B} : decode (ab_code (zx σ n0 bf).1 8192) 53 = .ok (.iconst 0, 1) := zd zm_8192 (by decide +kernel)
theorem d_8192_54 {σ : Nat → Nat} {n0 : Nat} {bf : ab_B} : decode (ab_code (zx σ n0 bf).1 8192) 54 = .ok (.iconst 0, 1) := zd zm_8192 (by decide +kernel)
theorem d_8192_55 {σ : Nat → Nat} {n0 : Nat} {bf : ab_B} : decode (ab_code (zx σ n0 bf).1 8192) 55 = .ok (.iload_n 1, 1) := zd zm_8192 (by decide +kernel)
theorem d_8192_56 {σ : Nat → Nat} {n0 : Nat} {bf : ab_B} : decode (ab_code (zx σ n0 bf).1 8192) 56 = .ok (.invokevirtual 656, 3) := zd zm_8192 (by decide +kernel)
theorem d_8192_59 {σ : Nat → Nat} {n0 : Nat} {bf : ab_B} : decode (ab_code (zx σ n0 bf).1 8192) 59 = .ok (.istore_n 3, 1) := zd zm_8192 (by decide +kernel)
theorem d_8192_60 {σ : Nat → Nat} {n0 : Nat} {bf : ab_B} : decode (ab_code (zx σ n0 bf).1 8192) 60 = .ok (.aload_n 0, 1) := zd zm_8192 (by decide +kernel)
theorem d_8192_61 {σ : Nat → Nat} {n0 : Nat} {bf : ab_B} : decode (ab_code (zx σ n0 bf).1 8192) 61 = .ok (.bipush 9, 2) := zd zm_8192 (by decide +kernel)
theorem d_8192_63 {σ : Nat → Nat} {n0 : Nat} {bf : ab_B} : decode (ab_code (zx σ n0 bf).1 8192) 63 = .ok (.invokevirtual 846, 3) := zd zm_8192 (by decide +kernel)
theorem d_8192_66 {σ : Nat → Nat} {n0 : Nat} {bf : ab_B} : decode (ab_code (zx σ n0 bf).1 8192) 66 = .ok (.aload_n 0, 1) := zd zm_8192 (by decide +kernel)
theorem d_8192_67 {σ : Nat → Nat} {n0 : Nat} {bf : ab_B} : decode (ab_code (zx σ n0 bf).1 8192) 67 = .ok (.dup, 1) := zd zm_8192 (by decide +kernel)
theorem d_8192_68 {σ : Nat → Nat} {n0 : Nat} {bf : ab_B} : decode (ab_code (zx σ n0 bf).1 8192) 68 = .ok (.getfield 983, 3) := zd zm_8192 (by decide +kernel)
theorem d_8192_71 {σ : Nat → Nat} {n0 : Nat} {bf : ab_B} : decode (ab_code (zx σ n0 bf).1 8192) 71 = .ok (.iconst 1, 1) := zd zm_8192 (by decide +kernel)
theorem d_8192_72 {σ : Nat → Nat} {n0 : Nat} {bf : ab_B} : decode (ab_code (zx σ n0 bf).1 8192) 72 = .ok (.isub, 1) := zd zm_8192 (by decide +kernel)
theorem d_8192_73 {σ : Nat → Nat} {n0 : Nat} {bf : ab_B} : decode (ab_code (zx σ n0 bf).1 8192) 73 = .ok (.putfield 983, 3) := zd zm_8192 (by decide +kernel)
theorem d_8192_76 {σ : Nat → Nat} {n0 : Nat} {bf : ab_B} : decode (ab_code (zx σ n0 bf).1 8192) 76 = .ok (.aload_n 0, 1) := zd zm_8192 (by decide +kernel)
theorem d_8192_77 {σ : Nat → Nat} {n0 : Nat} {bf : ab_B} : decode (ab_code (zx σ n0 bf).1 8192) 77 = .ok (.getfield 323, 3) := zd zm_8192 (by decide +kernel)
theorem d_8192_80 {σ : Nat → Nat} {n0 : Nat} {bf : ab_B} : decode (ab_code (zx σ n0 bf).1 8192) 80 = .ok (.aload_n 0, 1) := zd zm_8192 (by decide +kernel)
theorem d_8192_81 {σ : Nat → Nat} {n0 : Nat} {bf : ab_B} : decode (ab_code (zx σ n0 bf).1 8192) 81 = .ok (.getfield 983, 3) := zd zm_8192 (by decide +kernel)
theorem d_8192_84 {σ : Nat → Nat} {n0 : Nat} {bf : ab_B} : decode (ab_code (zx σ n0 bf).1 8192) 84 = .ok (.iaload, 1) := zd zm_8192 (by decide +kernel)
theorem d_8192_85 {σ : Nat → Nat} {n0 : Nat} {bf : ab_B} : decode (ab_code (zx σ n0 bf).1 8192) 85 = .ok (.istore_n 3, 1) := zd zm_8192 (by decide +kernel)
theorem d_8192_86 {σ : Nat → Nat} {n0 : Nat} {bf : ab_B} : decode (ab_code (zx σ n0 bf).1 8192) 86 = .ok (.iload_n 3, 1) := zd zm_8192 (by decide +kernel)
theorem d_8192_87 {σ : Nat → Nat} {n0 : Nat} {bf : ab_B} : decode (ab_code (zx σ n0 bf).1 8192) 87 = .ok (.ifCond .le 27, 3) := zd zm_8192 (by decide +kernel)
theorem d_8192_90 {σ : Nat → Nat} {n0 : Nat} {bf : ab_B} : decode (ab_code (zx σ n0 bf).1 8192) 90 = .ok (.aload_n 0, 1) := zd zm_8192 (by decide +kernel)
theorem d_8192_91 {σ : Nat → Nat} {n0 : Nat} {bf : ab_B} : decode (ab_code (zx σ n0 bf).1 8192) 91 = .ok (.getfield 75, 3) := zd zm_8192 (by decide +kernel)
theorem d_8192_94 {σ : Nat → Nat} {n0 : Nat} {bf : ab_B} : decode (ab_code (zx σ n0 bf).1 8192) 94 = .ok (.iload_n 3, 1) := zd zm_8192 (by decide +kernel)
theorem d_8192_95 {σ : Nat → Nat} {n0 : Nat} {bf : ab_B} : decode (ab_code (zx σ n0 bf).1 8192) 95 = .ok (.iaload, 1) := zd zm_8192 (by decide +kernel)
theorem d_8192_96 {σ : Nat → Nat} {n0 : Nat} {bf : ab_B} : decode (ab_code (zx σ n0 bf).1 8192) 96 = .ok (.istore 4, 2) := zd zm_8192 (by decide +kernel)
theorem d_8192_98 {σ : Nat → Nat} {n0 : Nat} {bf : ab_B} : decode (ab_code (zx σ n0 bf).1 8192) 98 = .ok (.aload_n 0, 1) := zd zm_8192 (by decide +kernel)
theorem d_8192_99 {σ : Nat → Nat} {n0 : Nat} {bf : ab_B} : decode (ab_code (zx σ n0 bf).1 8192) 99 = .ok (.getfield 75, 3) := zd zm_8192 (by decide +kernel)
theorem d_8192_102 {σ : Nat → Nat} {n0 : Nat} {bf : ab_B} : decode (ab_code (zx σ n0 bf).1 8192) 102 = .ok (.iload_n 3, 1) := zd zm_8192 (by decide +kernel)
theorem d_8192_103 {σ : Nat → Nat} {n0 : Nat} {bf : ab_B} : decode (ab_code (zx σ n0 bf).1 8192) 103 = .ok (.aload_n 0, 1) := zd zm_8192 (by decide +kernel)
theorem d_8192_104 {σ : Nat → Nat} {n0 : Nat} {bf : ab_B} : decode (ab_code (zx σ n0 bf).1 8192) 104 = .ok (.getfield 556, 3) := zd zm_8192 (by decide +kernel)
theorem d_8192_107 {σ : Nat → Nat} {n0 : Nat} {bf : ab_B} : decode (ab_code (zx σ n0 bf).1 8192) 107 = .ok (.iastore, 1) := zd zm_8192 (by decide +kernel)
theorem d_8192_108 {σ : Nat → Nat} {n0 : Nat} {bf : ab_B} : decode (ab_code (zx σ n0 bf).1 8192) 108 = .ok (.iload 4, 2) := zd zm_8192 (by decide +kernel)
theorem d_8192_110 {σ : Nat → Nat} {n0 : Nat} {bf : ab_B} : decode (ab_code (zx σ n0 bf).1 8192) 110 = .ok (.istore_n 3, 1) := zd zm_8192 (by decide +kernel)
theorem d_8192_111 {σ : Nat → Nat} {n0 : Nat} {bf : ab_B} : decode (ab_code (zx σ n0 bf).1 8192) 111 = .ok (.goto (-25), 3) := zd zm_8192 (by decide +kernel)
theorem d_8192_114 {σ : Nat → Nat} {n0 : Nat} {bf : ab_B} : decode (ab_code (zx σ n0 bf).1 8192) 114 = .ok (.return_, 1) := zd zm_8192 (by decide +kernel)
def w_X9_caseEnd_36 (X : zs_X) (d : Nat) (p0 : Nat) (S : zs_T) (Q : zs_Q) : Prop :=
  (zs_K S p0 = some (.inl 8) ∧ zs_C X d 8030 [.ref p0, .int (100 : Int32), .int (0 : Int32), .int (0 : Int32), .int (0 : Int32)] S (zs_kV (fun S2 => (Q (.returned none) S2)) Q))
theorem u_X9_caseEnd_36 {σ : Nat → Nat} {n0 : Nat} {bf : ab_B} {d : Nat} {p0 : Nat} {S : zs_T} {Q : zs_Q} (hB : zt_B bf) (h : w_X9_caseEnd_36 (zx σ n0 bf) d p0 S Q) : zs_U (zx σ n0 bf) d 8192 36 [(0, .ref p0)] [] S Q := by
  unfold w_X9_caseEnd_36 at h
  refine zu_aload_n d_8192_36 rfl (zs_ra _) ?_
  refine zu_bipush d_8192_37 zj_100 ?_
  refine zu_iconst d_8192_39 zi_0 ?_
  refine zu_iconst d_8192_40 zi_0 ?_
  refine zu_iconst d_8192_41 zi_0 ?_
  obtain ⟨k1, h⟩ := h
  refine zc_8_649 (x0 := (100 : Int32)) (x1 := (0 : Int32)) (x2 := (0 : Int32)) (x3 := (0 : Int32)) hB rfl k1 d_8192_42 (Nat.le_of_ble_eq_true rfl) h (fun S2 h => ?_)
  exact zu_vret d_8192_45 zr_8192 h
def w_X9_caseEnd_60 (X : zs_X) (d : Nat) (p0 : Nat) (S : zs_T) (Q : zs_Q) : Prop :=
  (zs_K S p0 = some (.inl 8) ∧ zs_C X d 8025 [.ref p0, .int (9 : Int32)] S (zs_kV (fun S2 => (zs_K S2 p0 = some (.inl 8) ∧ ab_n0 X.1 ≤ p0 ∧ ∀ S6, S6 = zs_sI S2 8153 p0 ((zs_I S2 8153 p0) - (1 : Int32)) → ∃ b9, (zs_R S6 8149 p0) = some b9 ∧ zs_A S2 b9 0 (zs_I S6 8153 p0) ∧ zs_U X d 8192 86 [(0, .ref p0), (3, .int (zs_i S6 b9 (zs_I S6 8153 p0).toNatClampNeg))] [] S6 Q)) Q))
theorem u_X9_caseEnd_60 {σ : Nat → Nat} {n0 : Nat} {bf : ab_B} {d : Nat} {p0 : Nat} {S : zs_T} {Q : zs_Q} (hB : zt_B bf) (h : w_X9_caseEnd_60 (zx σ n0 bf) d p0 S Q) : zs_U (zx σ n0 bf) d 8192 60 [(0, .ref p0)] [] S Q := by
  unfold w_X9_caseEnd_60 at h
  refine zu_aload_n d_8192_60 rfl (zs_ra _) ?_
  refine zu_bipush d_8192_61 zj_9 ?_
  obtain ⟨k1, h⟩ := h
  refine zc_8_846 (x0 := (9 : Int32)) hB rfl k1 d_8192_63 (Nat.le_of_ble_eq_true rfl) h (fun S2 h => ?_)
  refine zu_aload_n d_8192_66 rfl (zs_ra _) ?_
  refine zu_dup d_8192_67 rfl ?_
  obtain ⟨k4, h⟩ := h
  refine zg_8_983 rfl d_8192_68 k4 ?_
  refine zu_iconst d_8192_71 zi_1 ?_
  refine zu_stk d_8192_72 rfl rfl ?_
  obtain ⟨k5, h⟩ := h
  refine zp_8_983 (v := ((zs_I S2 8153 p0) - (1 : Int32))) rfl d_8192_73 k4 k5 ?_
  generalize e7 : zs_sI S2 8153 p0 ((zs_I S2 8153 p0) - (1 : Int32)) = S6
  have h := h S6 e7.symm
  have K8 : ∀ b, zs_K S6 b = zs_K S2 b := zs_Kt e7 (zs_KsI _ _ _ _) (fun _ => rfl)
  refine zu_aload_n d_8192_76 rfl (zs_ra _) ?_
  refine zg_8_323 rfl d_8192_77 ((K8 _).trans k4) ?_
  refine zu_aload_n d_8192_80 rfl (zs_ra _) ?_
  refine zg_8_983 rfl d_8192_81 ((K8 _).trans k4) ?_
  obtain ⟨b9, e10, h⟩ := h
  refine zs_stk1 (zs_rfe e10) ?_
  obtain ⟨k11, h⟩ := h
  refine zu_iald (k := 0) d_8192_84 rfl rfl (zs_Ak K8 k11) ?_
  refine zu_istore_n d_8192_85 (zs_lt zq_8192 rfl) ?_
  exact h.weak ⟨rfl, rfl, trivial⟩
def w_X9_caseEnd_46 (X : zs_X) (d : Nat) (p0 : Nat) (p1 : Int32) (p2 : Int32) (S : zs_T) (Q : zs_Q) : Prop :=
  (((¬ p2 = 0 → w_X9_caseEnd_60 X d p0 S Q) ∧ (¬ (¬ p2 = 0) → (zs_K S p0 = some (.inl 8) ∧ zs_C X d 8012 [.ref p0, .int (85 : Int32), .int (0 : Int32), .int (0 : Int32), .int p1] S (zs_kI (fun v4 S3 => (w_X9_caseEnd_60 X d p0 S3 Q)) Q)))))
theorem u_X9_caseEnd_46 {σ : Nat → Nat} {n0 : Nat} {bf : ab_B} {d : Nat} {p0 : Nat} {p1 : Int32} {p2 : Int32} {S : zs_T} {Q : zs_Q} (hB : zt_B bf) (h : w_X9_caseEnd_46 (zx σ n0 bf) d p0 p1 p2 S Q) : zs_U (zx σ n0 bf) d 8192 46 [(0, .ref p0), (1, .int p1), (2, .int p2)] [] S Q := by
  unfold w_X9_caseEnd_46 at h
  refine zu_iload_n d_8192_46 rfl ?_
  refine zu_ifne (t := 60) d_8192_47 rfl (fun c1 => ?_) (fun c1 => ?_)
  · have h := h.1 c1
    exact (u_X9_caseEnd_60 hB h).weak ⟨rfl, trivial⟩
  · have h := h.2 c1
    refine zu_aload_n d_8192_50 rfl (zs_ra _) ?_
    refine zu_bipush d_8192_51 zj_85 ?_
    refine zu_iconst d_8192_53 zi_0 ?_
    refine zu_iconst d_8192_54 zi_0 ?_
    refine zu_iload_n d_8192_55 rfl ?_
    obtain ⟨k2, h⟩ := h
    refine zc_8_656 (x0 := (85 : Int32)) (x1 := (0 : Int32)) (x2 := (0 : Int32)) (x3 := p1) hB rfl k2 d_8192_56 (Nat.le_of_ble_eq_true rfl) h (fun v4 S3 h => ?_)
    refine zu_istore_n d_8192_59 (zs_lt zq_8192 rfl) ?_
    exact (u_X9_caseEnd_60 hB h).weak ⟨rfl, trivial⟩
def w_X9_caseEnd_86 (X : zs_X) (d : Nat) (p0 : Nat) (p3 : Int32) (S : zs_T) (Q : zs_Q) : Prop :=
  (((p3 ≤ 0 → (Q (.returned none) S)) ∧ (¬ (p3 ≤ 0) → (zs_K S p0 = some (.inl 8) ∧ ∃ b3, (zs_R S 8037 p0) = some b3 ∧ zs_A S b3 0 p3 ∧ ab_n0 X.1 ≤ b3 ∧ ∀ S7, S7 = zs_si S b3 p3.toNatClampNeg (zs_I S 8040 p0) → zs_U X d 8192 86 [(0, .ref p0), (3, .int (zs_i S b3 p3.toNatClampNeg))] [] S7 Q))))
theorem u_X9_caseEnd_86 {σ : Nat → Nat} {n0 : Nat} {bf : ab_B} {d : Nat} {p0 : Nat} {p3 : Int32} {S : zs_T} {Q : zs_Q} (hB : zt_B bf) (h : w_X9_caseEnd_86 (zx σ n0 bf) d p0 p3 S Q) : zs_U (zx σ n0 bf) d 8192 86 [(0, .ref p0), (3, .int p3)] [] S Q := by
  unfold w_X9_caseEnd_86 at h
  refine zu_iload_n d_8192_86 rfl ?_
  refine zu_ifle (t := 114) d_8192_87 rfl (fun c1 => ?_) (fun c1 => ?_)
  · have h := h.1 c1
    exact zu_vret d_8192_114 zr_8192 h
  · have h := h.2 c1
    refine zu_aload_n d_8192_90 rfl (zs_ra _) ?_
    obtain ⟨k2, h⟩ := h
    refine zg_8_75 rfl d_8192_91 k2 ?_
    refine zu_iload_n d_8192_94 rfl ?_
    obtain ⟨b3, e4, h⟩ := h
    refine zs_stk1 (zs_rfe e4) ?_
    obtain ⟨k5, h⟩ := h
    refine zu_iald (k := 0) d_8192_95 rfl rfl k5 ?_
    refine zu_istore d_8192_96 (zs_lt zq_8192 rfl) ?_
    refine zu_aload_n d_8192_98 rfl (zs_ra _) ?_
    refine zg_8_75 rfl d_8192_99 k2 ?_
    refine zu_iload_n d_8192_102 rfl ?_
    refine zu_aload_n d_8192_103 rfl (zs_ra _) ?_
    refine zg_8_556 rfl d_8192_104 k2 ?_
    refine zs_stk2 (zs_rfe e4) ?_
    obtain ⟨k6, h⟩ := h
    refine zu_iast (k := 0) d_8192_107 rfl rfl k6 k5 ?_
    generalize e8 : zs_si S b3 p3.toNatClampNeg (zs_I S 8040 p0) = S7
    have h := h S7 e8.symm
    have K9 : ∀ b, zs_K S7 b = zs_K S b := zs_Kt e8 (zs_Ksi _ _ _ _) (fun _ => rfl)
    refine zu_iload d_8192_108 rfl ?_
    refine zu_istore_n d_8192_110 (zs_lt zq_8192 rfl) ?_
    refine zu_goto (t := 86) d_8192_111 rfl ?_
    exact h.weak ⟨rfl, rfl, trivial⟩
def w_X9_caseEnd (X : zs_X) (d : Nat) (p0 : Nat) (p1 : Int32) (p2 : Int32) (S : zs_T) (Q : zs_Q) : Prop :=
  (((¬ p2 = 0 → w_X9_caseEnd_46 X d p0 p1 p2 S Q) ∧ (¬ (¬ p2 = 0) → (zs_K S p0 = some (.inl 8) ∧ zs_C X d 8026 [.ref p0, .int (22 : Int32)] S (zs_kI (fun v4 S3 => (((v4 = 0 → w_X9_caseEnd_46 X d p0 p1 p2 S3 Q) ∧ (¬ (v4 = 0) → (zs_K S3 p0 = some (.inl 8) ∧ zs_C X d 8012 [.ref p0, .int (84 : Int32), .int (0 : Int32), .int (0 : Int32), .int (0 : Int32)] S3 (zs_kI (fun v8 S7 => (zs_K S7 p0 = some (.inl 8) ∧ zs_C X d 8014 [.ref p0] S7 (zs_kV (fun S10 => (zs_K S10 p0 = some (.inl 8) ∧ zs_C X d 8030 [.ref p0, .int (121 : Int32), .int p1, .int (1 : Int32), .int (0 : Int32)] S10 (zs_kV (fun S13 => w_X9_caseEnd_36 X d p0 S13 Q) Q))) Q))) Q)))))) Q)))))
theorem u_X9_caseEnd {σ : Nat → Nat} {n0 : Nat} {bf : ab_B} {d : Nat} {p0 : Nat} {p1 : Int32} {p2 : Int32} {S : zs_T} {Q : zs_Q} (hB : zt_B bf) (hd : 1 ≤ d) (h : w_X9_caseEnd (zx σ n0 bf) (d - 1) p0 p1 p2 S Q) : zs_C (zx σ n0 bf) d 8192 [.ref p0, .int p1, .int p2] S Q := by
  have hL : lv_args 0 [.ref p0, .int p1, .int p2] = [(0, .ref p0), (1, .int p1), (2, .int p2)] := rfl
  refine zs_C.of1 (hB.2 8192 (by decide) (by decide)) hd (by rw [hL]; exact zs_sub_self _ (by exact ⟨rfl, rfl, rfl, trivial⟩)) ?_
  rw [hL]
  clear hL
  unfold w_X9_caseEnd at h
  refine zu_iload_n d_8192_0 rfl ?_
  refine zu_ifne (t := 46) d_8192_1 rfl (fun c1 => ?_) (fun c1 => ?_)
  · have h := h.1 c1
    exact (u_X9_caseEnd_46 hB h).weak ⟨rfl, rfl, rfl, trivial⟩
  · have h := h.2 c1
    refine zu_aload_n d_8192_4 rfl (zs_ra _) ?_
    refine zu_bipush d_8192_5 zj_22 ?_
    obtain ⟨k2, h⟩ := h
    refine zc_8_544 (x0 := (22 : Int32)) hB rfl k2 d_8192_7 (Nat.le_of_ble_eq_true rfl) h (fun v4 S3 h => ?_)
    refine zu_ifeq (t := 46) d_8192_10 rfl (fun c5 => ?_) (fun c5 => ?_)
    · have h := h.1 c5
      exact (u_X9_caseEnd_46 hB h).weak ⟨rfl, rfl, rfl, trivial⟩
    · have h := h.2 c5
      refine zu_aload_n d_8192_13 rfl (zs_ra _) ?_
      refine zu_bipush d_8192_14 zj_84 ?_
      refine zu_iconst d_8192_16 zi_0 ?_
      refine zu_iconst d_8192_17 zi_0 ?_
      refine zu_iconst d_8192_18 zi_0 ?_
      obtain ⟨k6, h⟩ := h
      refine zc_8_656 (x0 := (84 : Int32)) (x1 := (0 : Int32)) (x2 := (0 : Int32)) (x3 := (0 : Int32)) hB rfl k6 d_8192_19 (Nat.le_of_ble_eq_true rfl) h (fun v8 S7 h => ?_)
      refine zu_istore_n d_8192_22 (zs_lt zq_8192 rfl) ?_
      refine zu_aload_n d_8192_23 rfl (zs_ra _) ?_
      obtain ⟨k9, h⟩ := h
      refine zc_8_538  hB rfl k9 d_8192_24 (Nat.le_of_ble_eq_true rfl) h (fun S10 h => ?_)
      refine zu_aload_n d_8192_27 rfl (zs_ra _) ?_
      refine zu_bipush d_8192_28 zj_121 ?_
      refine zu_iload_n d_8192_30 rfl ?_
      refine zu_iconst d_8192_31 zi_1 ?_
      refine zu_iconst d_8192_32 zi_0 ?_
      obtain ⟨k12, h⟩ := h
      refine zc_8_649 (x0 := (121 : Int32)) (x1 := p1) (x2 := (1 : Int32)) (x3 := (0 : Int32)) hB rfl k12 d_8192_33 (Nat.le_of_ble_eq_true rfl) h (fun S13 h => ?_)
      exact (u_X9_caseEnd_36 hB h).weak ⟨rfl, trivial⟩
