/-! printed by gen_all.py: what the methods compute -/
set_option maxRecDepth 100000
/-! SchemaPascal$Machine.giveText(ILSchemaPascal$Type;II)V -/
theorem zm_1061 {σ : Nat → Nat} {n0 : Nat} {bf : ab_B} : ab_code (zx σ n0 bf).1 1061 = prog_5_method_26_code := rfl
theorem zq_1061 {σ : Nat → Nat} {n0 : Nat} {bf : ab_B} : ab_maxL (zx σ n0 bf).1 1061 = 7 := rfl
theorem zr_1061 {σ : Nat → Nat} {n0 : Nat} {bf : ab_B} : ab_ret (zx σ n0 bf).1 1061 = (Option.none : Option Jvm.ClassFile.FieldType) := rfl
theorem d_1061_0 {σ : Nat → Nat} {n0 : Nat} {bf : ab_B} : decode (ab_code (zx σ n0 bf).1 1061) 0 = .ok (.iload_n 3, 1) := zd zm_1061 (by decide +kernel)
theorem d_1061_1 {σ : Nat → Nat} {n0 : Nat} {bf : ab_B} : decode (ab_code (zx σ n0 bf).1 1061) 1 = .ok (.ifCond .ge 7, 3) := zd zm_1061 (by decide +kernel)
theorem d_1061_4 {σ : Nat → Nat} {n0 : Nat} {bf : ab_B} : decode (ab_code (zx σ n0 bf).1 1061) 4 = .ok (.iconst 1, 1) := zd zm_1061 (by decide +kernel)
theorem d_1061_5 {σ : Nat → Nat} {n0 : Nat} {bf : ab_B} : decode (ab_code (zx σ n0 bf).1 1061) 5 = .ok (.goto 7, 3) := zd zm_1061 (by decide +kernel)
theorem d_1061_8 {σ : Nat → Nat} {n0 : Nat} {bf : ab_B} : decode (ab_code (zx σ n0 bf).1 1061) 8 = .ok (.iload 4, 2) := zd zm_1061 (by decide +kernel)
theorem d_1061_10 {σ : Nat → Nat} {n0 : Nat} {bf : ab_B} : decode (ab_code (zx σ n0 bf).1 1061) 10 = .ok (.iload_n 3, 1) := zd zm_1061 (by decide +kernel)
theorem d_1061_11 {σ : Nat → Nat} {n0 : Nat} {bf : ab_B} : decode (ab_code (zx σ n0 bf).1 1061) 11 = .ok (.isub, 1) := zd zm_1061 (by decide +kernel)
theorem d_1061_12 {σ : Nat → Nat} {n0 : Nat} {bf : ab_B} : decode (ab_code (zx σ n0 bf).1 1061) 12 = .ok (.istore 5, 2) := zd zm_1061 (by decide +kernel)
theorem d_1061_14 {σ : Nat → Nat} {n0 : Nat} {bf : ab_B} : decode (ab_code (zx σ n0 bf).1 1061) 14 = .ok (.aload_n 0, 1) := zd zm_1061 (by decide +kernel)
theorem d_1061_15 {σ : Nat → Nat} {n0 : Nat} {bf : ab_B} : decode (ab_code (zx σ n0 bf).1 1061) 15 = .ok (.iload_n 1, 1) := zd zm_1061 (by decide +kernel)
theorem d_1061_16 {σ : Nat → Nat} {n0 : Nat} {bf : ab_B} : decode (ab_code (zx σ n0 bf).1 1061) 16 = .ok (.iload 5, 2) := zd zm_1061 (by decide +kernel)
theorem d_1061_18 {σ : Nat → Nat} {n0 : Nat} {bf : ab_B} : decode (ab_code (zx σ n0 bf).1 1061) 18 = .ok (.i2l, 1) := zd zm_1061 (by decide +kernel)
theorem d_1061_19 {σ : Nat → Nat} {n0 : Nat} {bf : ab_B} : decode (ab_code (zx σ n0 bf).1 1061) 19 = .ok (.ldc_w 365, 3) := zd zm_1061 (by decide +kernel)
theorem d_1061_22 {σ : Nat → Nat} {n0 : Nat} {bf : ab_B} : decode (ab_code (zx σ n0 bf).1 1061) 22 = .ok (.invokevirtual 385, 3) := zd zm_1061 (by decide +kernel)
theorem d_1061_25 {σ : Nat → Nat} {n0 : Nat} {bf : ab_B} : decode (ab_code (zx σ n0 bf).1 1061) 25 = .ok (.iconst 0, 1) := zd zm_1061 (by decide +kernel)
theorem d_1061_26 {σ : Nat → Nat} {n0 : Nat} {bf : ab_B} : decode (ab_code (zx σ n0 bf).1 1061) 26 = .ok (.istore 6, 2) := zd zm_1061 (by decide +kernel)
theorem d_1061_28 {σ : Nat → Nat} {n0 : Nat} {bf : ab_B} : decode (ab_code (zx σ n0 bf).1 1061) 28 = .ok (.iload 6, 2) := zd zm_1061 (by decide +kernel)
theorem d_1061_30 {σ : Nat → Nat} {n0 : Nat} {bf : ab_B} : decode (ab_code (zx σ n0 bf).1 1061) 30 = .ok (.iload 5, 2) := zd zm_1061 (by decide +kernel)
theorem d_1061_32 {σ : Nat → Nat} {n0 : Nat} {bf : ab_B} : decode (ab_code (zx σ n0 bf).1 1061) 32 = .ok (.if_icmp .ge 50, 3) := zd zm_1061 (by decide +kernel)
theorem d_1061_35 {σ : Nat → Nat} {n0 : Nat} {bf : ab_B} : decode (ab_code (zx σ n0 bf).1 1061) 35 = .ok (.aload_n 0, 1) := zd zm_1061 (by decide +kernel)
theorem d_1061_36 {σ : Nat → Nat} {n0 : Nat} {bf : ab_B} : decode (ab_code (zx σ n0 bf).1 1061) 36 = .ok (.iload_n 1, 1) := zd zm_1061 (by decide +kernel)
theorem d_1061_37 {σ : Nat → Nat} {n0 : Nat} {bf : ab_B} : decode (ab_code (zx σ n0 bf).1 1061) 37 = .ok (.iconst 1, 1) := zd zm_1061 (by decide +kernel)
theorem d_1061_38 {σ : Nat → Nat} {n0 : Nat} {bf : ab_B} : decode (ab_code (zx σ n0 bf).1 1061) 38 = .ok (.iadd, 1) := zd zm_1061 (by decide +kernel)
theorem d_1061_39 {σ : Nat → Nat} {n0 : Nat} {bf : ab_B} : decode (ab_code (zx σ n0 bf).1 1061) 39 = .ok (.iload 6, 2) := zd zm_1061 (by decide +kernel)
theorem d_1061_41 {σ : Nat → Nat} {n0 : Nat} {bf : ab_B} : decode (ab_code (zx σ n0 bf).1 1061) 41 = .ok (.iadd, 1) := zd zm_1061 (by decide +kernel)
theorem d_1061_42 {σ : Nat → Nat} {n0 : Nat} {bf : ab_B} : decode (ab_code (zx σ n0 bf).1 1061) 42 = .ok (.iload_n 3, 1) := zd zm_1061 (by decide +kernel)
theorem d_1061_43 {σ : Nat → Nat} {n0 : Nat} {bf : ab_B} : decode (ab_code (zx σ n0 bf).1 1061) 43 = .ok (.ifCond .ge 10, 3) := zd zm_1061 (by decide +kernel)
theorem d_1061_46 {σ : Nat → Nat} {n0 : Nat} {bf : ab_B} : decode (ab_code (zx σ n0 bf).1 1061) 46 = .ok (.iconst (-1), 1) := zd zm_1061 (by decide +kernel)
theorem d_1061_47 {σ : Nat → Nat} {n0 : Nat} {bf : ab_B} : decode (ab_code (zx σ n0 bf).1 1061) 47 = .ok (.iload_n 3, 1) := zd zm_1061 (by decide +kernel)
theorem d_1061_48 {σ : Nat → Nat} {n0 : Nat} {bf : ab_B} : decode (ab_code (zx σ n0 bf).1 1061) 48 = .ok (.isub, 1) := zd zm_1061 (by decide +kernel)
theorem d_1061_49 {σ : Nat → Nat} {n0 : Nat} {bf : ab_B} : decode (ab_code (zx σ n0 bf).1 1061) 49 = .ok (.i2l, 1) := zd zm_1061 (by decide +kernel)
theorem d_1061_50 {σ : Nat → Nat} {n0 : Nat} {bf : ab_B} : decode (ab_code (zx σ n0 bf).1 1061) 50 = .ok (.goto 20, 3) := zd zm_1061 (by decide +kernel)
theorem d_1061_53 {σ : Nat → Nat} {n0 : Nat} {bf : ab_B} : decode (ab_code (zx σ n0 bf).1 1061) 53 = .ok (.aload_n 0, 1) := zd zm_1061 (by decide +kernel)
theorem d_1061_54 {σ : Nat → Nat} {n0 : Nat} {bf : ab_B} : decode (ab_code (zx σ n0 bf).1 1061) 54 = .ok (.getfield 107, 3) := zd zm_1061 (by decide +kernel)
theorem d_1061_57 {σ : Nat → Nat} {n0 : Nat} {bf : ab_B} : decode (ab_code (zx σ n0 bf).1 1061) 57 = .ok (.getfield 230, 3) := zd zm_1061 (by decide +kernel)
theorem d_1061_60 {σ : Nat → Nat} {n0 : Nat} {bf : ab_B} : decode (ab_code (zx σ n0 bf).1 1061) 60 = .ok (.iload_n 3, 1) := zd zm_1061 (by decide +kernel)
theorem d_1061_61 {σ : Nat → Nat} {n0 : Nat} {bf : ab_B} : decode (ab_code (zx σ n0 bf).1 1061) 61 = .ok (.iload 6, 2) := zd zm_1061 (by decide +kernel)
theorem d_1061_63 {σ : Nat → Nat} {n0 : Nat} {bf : ab_B} : decode (ab_code (zx σ n0 bf).1 1061) 63 = .ok (.iadd, 1) := zd zm_1061 (by decide +kernel)
theorem d_1061_64 {σ : Nat → Nat} {n0 : Nat} {bf : ab_B} : decode (ab_code (zx σ n0 bf).1 1061) 64 = .ok (.baload, 1) := zd zm_1061 (by decide +kernel)
theorem d_1061_65 {σ : Nat → Nat} {n0 : Nat} {bf : ab_B} : decode (ab_code (zx σ n0 bf).1 1061) 65 = .ok (.sipush 255, 3) := zd zm_1061 (by decide +kernel)
theorem d_1061_68 {σ : Nat → Nat} {n0 : Nat} {bf : ab_B} : decode (ab_code (zx σ n0 bf).1 1061) 68 = .ok (.iand, 1) := zd zm_1061 (by decide +kernel)
theorem d_1061_69 {σ : Nat → Nat} {n0 : Nat} {bf : ab_B} : decode (ab_code (zx σ n0 bf).1 1061) 69 = .ok (.i2l, 1) := zd zm_1061 (by decide +kernel)
theorem d_1061_70 {σ : Nat → Nat} {n0 : Nat} {bf : ab_B} : decode (ab_code (zx σ n0 bf).1 1061) 70 = .ok (.ldc_w 373, 3) := zd zm_1061 (by decide +kernel)
theorem d_1061_73 {σ : Nat → Nat} {n0 : Nat} {bf : ab_B} : decode (ab_code (zx σ n0 bf).1 1061) 73 = .ok (.invokevirtual 385, 3) := zd zm_1061 (by decide +kernel)
theorem d_1061_76 {σ : Nat → Nat} {n0 : Nat} {bf : ab_B} : decode (ab_code (zx σ n0 bf).1 1061) 76 = .ok (.iinc 6 1, 3) := zd zm_1061 (by decide +kernel)
theorem d_1061_79 {σ : Nat → Nat} {n0 : Nat} {bf : ab_B} : decode (ab_code (zx σ n0 bf).1 1061) 79 = .ok (.goto (-51), 3) := zd zm_1061 (by decide +kernel)
theorem d_1061_82 {σ : Nat → Nat} {n0 : Nat} {bf : ab_B} : decode (ab_code (zx σ n0 bf).1 1061) 82 = .ok (.iload 5, 2) := zd zm_1061 (by decide +kernel)
theorem d_1061_84 {σ : Nat → Nat} {n0 : Nat} {bf : ab_B} : decode (ab_code (zx σ n0 bf).1 1061) 84 = .ok (.istore 6, 2) := zd zm_1061 (by decide +kernel)
theorem d_1061_86 {σ : Nat → Nat} {n0 : Nat} {bf : ab_B} : decode (ab_code (zx σ n0 bf).1 1061) 86 = .ok (.iload 6, 2) := zd zm_1061 (by decide +kernel)
theorem d_1061_88 {σ : Nat → Nat} {n0 : Nat} {bf : ab_B} : decode (ab_code (zx σ n0 bf).1 1061) 88 = .ok (.i2l, 1) := zd zm_1061 (by decide +kernel)
theorem d_1061_89 {σ : Nat → Nat} {n0 : Nat} {bf : ab_B} : decode (ab_code (zx σ n0 bf).1 1061) 89 = .ok (.aload_n 0, 1) := zd zm_1061 (by decide +kernel)
theorem d_1061_90 {σ : Nat → Nat} {n0 : Nat} {bf : ab_B} : decode (ab_code (zx σ n0 bf).1 1061) 90 = .ok (.getfield 31, 3) := zd zm_1061 (by decide +kernel)
theorem d_1061_93 {σ : Nat → Nat} {n0 : Nat} {bf : ab_B} : decode (ab_code (zx σ n0 bf).1 1061) 93 = .ok (.aload_n 2, 1) := zd zm_1061 (by decide +kernel)
theorem d_1061_94 {σ : Nat → Nat} {n0 : Nat} {bf : ab_B} : decode (ab_code (zx σ n0 bf).1 1061) 94 = .ok (.getfield 366, 3) := zd zm_1061 (by decide +kernel)
theorem d_1061_97 {σ : Nat → Nat} {n0 : Nat} {bf : ab_B} : decode (ab_code (zx σ n0 bf).1 1061) 97 = .ok (.iconst (-1), 1) := zd zm_1061 (by decide +kernel)
theorem d_1061_98 {σ : Nat → Nat} {n0 : Nat} {bf : ab_B} : decode (ab_code (zx σ n0 bf).1 1061) 98 = .ok (.invokevirtual 369, 3) := zd zm_1061 (by decide +kernel)
theorem d_1061_101 {σ : Nat → Nat} {n0 : Nat} {bf : ab_B} : decode (ab_code (zx σ n0 bf).1 1061) 101 = .ok (.lcmp, 1) := zd zm_1061 (by decide +kernel)
theorem d_1061_102 {σ : Nat → Nat} {n0 : Nat} {bf : ab_B} : decode (ab_code (zx σ n0 bf).1 1061) 102 = .ok (.ifCond .ge 21, 3) := zd zm_1061 (by decide +kernel)
theorem d_1061_105 {σ : Nat → Nat} {n0 : Nat} {bf : ab_B} : decode (ab_code (zx σ n0 bf).1 1061) 105 = .ok (.aload_n 0, 1) := zd zm_1061 (by decide +kernel)
theorem d_1061_106 {σ : Nat → Nat} {n0 : Nat} {bf : ab_B} : decode (ab_code (zx σ n0 bf).1 1061) 106 = .ok (.getfield 17, 3) := zd zm_1061 (by decide +kernel)
theorem d_1061_109 {σ : Nat → Nat} {n0 : Nat} {bf : ab_B} : decode (ab_code (zx σ n0 bf).1 1061) 109 = .ok (.iload_n 1, 1) := zd zm_1061 (by decide +kernel)
theorem d_1061_110 {σ : Nat → Nat} {n0 : Nat} {bf : ab_B} : decode (ab_code (zx σ n0 bf).1 1061) 110 = .ok (.iconst 1, 1) := zd zm_1061 (by decide +kernel)
theorem d_1061_111 {σ : Nat → Nat} {n0 : Nat} {bf : ab_B} : decode (ab_code (zx σ n0 bf).1 1061) 111 = .ok (.iadd, 1) := zd zm_1061 (by decide +kernel)
theorem d_1061_112 {σ : Nat → Nat} {n0 : Nat} {bf : ab_B} : decode (ab_code (zx σ n0 bf).1 1061) 112 = .ok (.iload 6, 2) := zd zm_1061 (by decide +kernel)
theorem d_1061_114 {σ : Nat → Nat} {n0 : Nat} {bf : ab_B} : decode (ab_code (zx σ n0 bf).1 1061) 114 = .ok (.iadd, 1) := zd zm_1061 (by decide +kernel)
theorem d_1061_115 {σ : Nat → Nat} {n0 : Nat} {bf : ab_B} : decode (ab_code (zx σ n0 bf).1 1061) 115 = .ok (.iconst 0, 1) := zd zm_1061 (by decide +kernel)
theorem d_1061_116 {σ : Nat → Nat} {n0 : Nat} {bf : ab_B} : decode (ab_code (zx σ n0 bf).1 1061) 116 = .ok (.bastore, 1) := zd zm_1061 (by decide +kernel)
theorem d_1061_117 {σ : Nat → Nat} {n0 : Nat} {bf : ab_B} : decode (ab_code (zx σ n0 bf).1 1061) 117 = .ok (.iinc 6 1, 3) := zd zm_1061 (by decide +kernel)
theorem d_1061_120 {σ : Nat → Nat} {n0 : Nat} {bf : ab_B} : decode (ab_code (zx σ n0 bf).1 1061) 120 = .ok (.goto (-34), 3) := zd zm_1061 (by decide +kernel)
theorem d_1061_123 {σ : Nat → Nat} {n0 : Nat} {bf : ab_B} : decode (ab_code (zx σ n0 bf).1 1061) 123 = .ok (.return_, 1) := zd zm_1061 (by decide +kernel)
def w_X2_giveText_12 (X : zs_X) (d : Nat) (p0 : Nat) (p1 : Int32) (p2 : Option Nat) (p3 : Int32) (q0 : Int32) (S : zs_T) (Q : zs_Q) : Prop :=
  (zs_K S p0 = some (.inl 1) ∧ zs_C X d 1023 [.ref p0, .int p1, .long ((q0).toInt64), .int (3000000 : Int32)] S (zs_kV (fun S2 => (zs_U X d 1061 28 [(0, .ref p0), (1, .int p1), (2, va_rf p2), (3, .int p3), (5, .int q0), (6, .int (0 : Int32))] [] S2 Q)) Q))
theorem u_X2_giveText_12 {σ : Nat → Nat} {n0 : Nat} {bf : ab_B} {d : Nat} {p0 : Nat} {p1 : Int32} {p2 : Option Nat} {p3 : Int32} {q0 : Int32} {S : zs_T} {Q : zs_Q} (hB : zt_B bf) (h : w_X2_giveText_12 (zx σ n0 bf) d p0 p1 p2 p3 q0 S Q) : zs_U (zx σ n0 bf) d 1061 12 [(0, .ref p0), (1, .int p1), (2, va_rf p2), (3, .int p3)] [.int q0] S Q := by
  unfold w_X2_giveText_12 at h
  refine zu_istore d_1061_12 (zs_lt zq_1061 rfl) ?_
  refine zu_aload_n d_1061_14 rfl (zs_ra _) ?_
  refine zu_iload_n d_1061_15 rfl ?_
  refine zu_iload d_1061_16 rfl ?_
  refine zu_stk d_1061_18 rfl rfl ?_
  refine zlw_1_365 rfl d_1061_19 ?_
  obtain ⟨k1, h⟩ := h
  refine zc_1_385 (x0 := p1) (x1 := ((q0).toInt64)) (x2 := (3000000 : Int32)) hB rfl k1 d_1061_22 (Nat.le_of_ble_eq_true rfl) h (fun S2 h => ?_)
  refine zu_iconst d_1061_25 zi_0 ?_
  refine zu_istore d_1061_26 (zs_lt zq_1061 rfl) ?_
  exact h.weak ⟨rfl, rfl, rfl, rfl, rfl, rfl, trivial⟩
def w_X2_giveText_70 (X : zs_X) (d : Nat) (p0 : Nat) (p1 : Int32) (p2 : Option Nat) (p3 : Int32) (p5 : Int32) (p6 : Int32) (q0 : Option Nat) (q1 : Int32) (q2 : Int64) (S : zs_T) (Q : zs_Q) : Prop :=
  (∃ b1, q0 = some b1 ∧ zs_K S b1 = some (.inl 1) ∧ zs_C X d 1023 [.ref b1, .int q1, .long q2, .int (3000001 : Int32)] S (zs_kV (fun S4 => (zs_U X d 1061 28 [(0, .ref p0), (1, .int p1), (2, va_rf p2), (3, .int p3), (5, .int p5), (6, .int (p6 + (1 : Int32)))] [] S4 Q)) Q))
theorem u_X2_giveText_70 {σ : Nat → Nat} {n0 : Nat} {bf : ab_B} {d : Nat} {p0 : Nat} {p1 : Int32} {p2 : Option Nat} {p3 : Int32} {p5 : Int32} {p6 : Int32} {q0 : Option Nat} {q1 : Int32} {q2 : Int64} {S : zs_T} {Q : zs_Q} (hB : zt_B bf) (h : w_X2_giveText_70 (zx σ n0 bf) d p0 p1 p2 p3 p5 p6 q0 q1 q2 S Q) : zs_U (zx σ n0 bf) d 1061 70 [(0, .ref p0), (1, .int p1), (2, va_rf p2), (3, .int p3), (5, .int p5), (6, .int p6)] [.long q2, .int q1, va_rf q0] S Q := by
  unfold w_X2_giveText_70 at h
  refine zlw_1_373 rfl d_1061_70 ?_
  obtain ⟨b1, e2, h⟩ := h
  refine zs_stk3 (zs_rfe e2) ?_
  obtain ⟨k3, h⟩ := h
  refine zc_1_385 (x0 := q1) (x1 := q2) (x2 := (3000001 : Int32)) hB rfl k3 d_1061_73 (Nat.le_of_ble_eq_true rfl) h (fun S4 h => ?_)
  refine zu_iinc d_1061_76 rfl zi_1 (zs_lt zq_1061 rfl) ?_
  refine zu_goto (t := 28) d_1061_79 rfl ?_
  exact h.weak ⟨rfl, rfl, rfl, rfl, rfl, rfl, trivial⟩
def w_X2_giveText_28 (X : zs_X) (d : Nat) (p0 : Nat) (p1 : Int32) (p2 : Option Nat) (p3 : Int32) (p5 : Int32) (p6 : Int32) (S : zs_T) (Q : zs_Q) : Prop :=
  (((p5 ≤ p6 → (zs_U X d 1061 86 [(0, .ref p0), (1, .int p1), (2, va_rf p2), (6, .int p5)] [] S Q)) ∧ (¬ (p5 ≤ p6) → (((0 ≤ p3 → (zs_K S p0 = some (.inl 1) ∧ ∃ b4, (zs_R S 1000 p0) = some b4 ∧ zs_K S b4 = some (.inl 3) ∧ ∃ b7, (zs_R S 3005 b4) = some b7 ∧ zs_A S b7 1 (p3 + p6) ∧ w_X2_giveText_70 X d p0 p1 p2 p3 p5 p6 (some p0) ((p1 + (1 : Int32)) + p6) ((((zs_i S b7 (p3 + p6).toNatClampNeg) &&& (255 : Int32))).toInt64) S Q)) ∧ (¬ (0 ≤ p3) → (w_X2_giveText_70 X d p0 p1 p2 p3 p5 p6 (some p0) ((p1 + (1 : Int32)) + p6) ((((-1 : Int32) - p3)).toInt64) S Q)))))))
theorem u_X2_giveText_28 {σ : Nat → Nat} {n0 : Nat} {bf : ab_B} {d : Nat} {p0 : Nat} {p1 : Int32} {p2 : Option Nat} {p3 : Int32} {p5 : Int32} {p6 : Int32} {S : zs_T} {Q : zs_Q} (hB : zt_B bf) (h : w_X2_giveText_28 (zx σ n0 bf) d p0 p1 p2 p3 p5 p6 S Q) : zs_U (zx σ n0 bf) d 1061 28 [(0, .ref p0), (1, .int p1), (2, va_rf p2), (3, .int p3), (5, .int p5), (6, .int p6)] [] S Q := by
  unfold w_X2_giveText_28 at h
  refine zu_iload d_1061_28 rfl ?_
  refine zu_iload d_1061_30 rfl ?_
  refine zu_cmpge (t := 82) d_1061_32 rfl (fun c1 => ?_) (fun c1 => ?_)
  · have h := h.1 c1
    refine zu_iload d_1061_82 rfl ?_
    refine zu_istore d_1061_84 (zs_lt zq_1061 rfl) ?_
    exact h.weak ⟨rfl, rfl, rfl, rfl, trivial⟩
  · have h := h.2 c1
    refine zu_aload_n d_1061_35 rfl (zs_ra _) ?_
    refine zu_iload_n d_1061_36 rfl ?_
    refine zu_iconst d_1061_37 zi_1 ?_
    refine zu_stk d_1061_38 rfl rfl ?_
    refine zu_iload d_1061_39 rfl ?_
    refine zu_stk d_1061_41 rfl rfl ?_
    refine zu_iload_n d_1061_42 rfl ?_
    refine zu_ifge (t := 53) d_1061_43 rfl (fun c2 => ?_) (fun c2 => ?_)
    · have h := h.1 c2
      refine zu_aload_n d_1061_53 rfl (zs_ra _) ?_
      obtain ⟨k3, h⟩ := h
      refine zg_1_107 rfl d_1061_54 k3 ?_
      obtain ⟨b4, e5, h⟩ := h
      refine zs_stk0 (zs_rfe e5) ?_
      obtain ⟨k6, h⟩ := h
      refine zg_1_230 rfl d_1061_57 k6 ?_
      refine zu_iload_n d_1061_60 rfl ?_
      refine zu_iload d_1061_61 rfl ?_
      refine zu_stk d_1061_63 rfl rfl ?_
      obtain ⟨b7, e8, h⟩ := h
      refine zs_stk1 (zs_rfe e8) ?_
      obtain ⟨k9, h⟩ := h
      refine zu_bald (k := 1) d_1061_64 rfl (Or.inl rfl) k9 ?_
      refine zu_sipush d_1061_65 zh_255 ?_
      refine zu_stk d_1061_68 rfl rfl ?_
      refine zu_stk d_1061_69 rfl rfl ?_
      exact (u_X2_giveText_70 hB h).weak ⟨rfl, rfl, rfl, rfl, rfl, rfl, trivial⟩
    · have h := h.2 c2
      refine zu_iconst d_1061_46 zi_m1 ?_
      refine zu_iload_n d_1061_47 rfl ?_
      refine zu_stk d_1061_48 rfl rfl ?_
      refine zu_stk d_1061_49 rfl rfl ?_
      refine zu_goto (t := 70) d_1061_50 rfl ?_
      exact (u_X2_giveText_70 hB h).weak ⟨rfl, rfl, rfl, rfl, rfl, rfl, trivial⟩
def w_X2_giveText_117 (X : zs_X) (d : Nat) (p0 : Nat) (p1 : Int32) (p2 : Option Nat) (p6 : Int32) (S : zs_T) (Q : zs_Q) : Prop :=
  (zs_U X d 1061 86 [(0, .ref p0), (1, .int p1), (2, va_rf p2), (6, .int (p6 + (1 : Int32)))] [] S Q)
theorem u_X2_giveText_117 {σ : Nat → Nat} {n0 : Nat} {bf : ab_B} {d : Nat} {p0 : Nat} {p1 : Int32} {p2 : Option Nat} {p6 : Int32} {S : zs_T} {Q : zs_Q} (hB : zt_B bf) (h : w_X2_giveText_117 (zx σ n0 bf) d p0 p1 p2 p6 S Q) : zs_U (zx σ n0 bf) d 1061 117 [(0, .ref p0), (1, .int p1), (2, va_rf p2), (6, .int p6)] [] S Q := by
  unfold w_X2_giveText_117 at h
  refine zu_iinc d_1061_117 rfl zi_1 (zs_lt zq_1061 rfl) ?_
  refine zu_goto (t := 86) d_1061_120 rfl ?_
  exact h.weak ⟨rfl, rfl, rfl, rfl, trivial⟩
def w_X2_giveText_86 (X : zs_X) (d : Nat) (p0 : Nat) (p1 : Int32) (p2 : Option Nat) (p6 : Int32) (S : zs_T) (Q : zs_Q) : Prop :=
  (zs_K S p0 = some (.inl 1) ∧ ∃ b2, p2 = some b2 ∧ zs_K S b2 = some (.inl 6) ∧ ∃ b5, (zs_R S 1004 p0) = some b5 ∧ zs_K S b5 = some (.inl 2) ∧ zs_C X d 2001 [.ref b5, va_rf (zs_R S 6004 b2), .int (-1 : Int32)] S (zs_kJ (fun v9 S8 => (((v9 ≤ ((p6).toInt64) → (Q (.returned none) S8)) ∧ (¬ (v9 ≤ ((p6).toInt64)) → (zs_K S8 p0 = some (.inl 1) ∧ ∃ b12, (zs_R S8 1002 p0) = some b12 ∧ zs_A S8 b12 2 ((p1 + (1 : Int32)) + p6) ∧ ab_n0 X.1 ≤ b12 ∧ ∀ S16, S16 = zs_si S8 b12 ((p1 + (1 : Int32)) + p6).toNatClampNeg (vp_nar .boolean (0 : Int32)) → w_X2_giveText_117 X d p0 p1 p2 p6 S16 Q))))) Q))
theorem u_X2_giveText_86 {σ : Nat → Nat} {n0 : Nat} {bf : ab_B} {d : Nat} {p0 : Nat} {p1 : Int32} {p2 : Option Nat} {p6 : Int32} {S : zs_T} {Q : zs_Q} (hB : zt_B bf) (h : w_X2_giveText_86 (zx σ n0 bf) d p0 p1 p2 p6 S Q) : zs_U (zx σ n0 bf) d 1061 86 [(0, .ref p0), (1, .int p1), (2, va_rf p2), (6, .int p6)] [] S Q := by
  unfold w_X2_giveText_86 at h
  refine zu_iload d_1061_86 rfl ?_
  refine zu_stk d_1061_88 rfl rfl ?_
  refine zu_aload_n d_1061_89 rfl (zs_ra _) ?_
  obtain ⟨k1, h⟩ := h
  refine zg_1_31 rfl d_1061_90 k1 ?_
  refine zu_aload_n d_1061_93 rfl (zs_rr _) ?_
  obtain ⟨b2, e3, h⟩ := h
  refine zs_stk0 (zs_rfe e3) ?_
  obtain ⟨k4, h⟩ := h
  refine zg_1_366 rfl d_1061_94 k4 ?_
  refine zu_iconst d_1061_97 zi_m1 ?_
  obtain ⟨b5, e6, h⟩ := h
  refine zs_stk2 (zs_rfe e6) ?_
  obtain ⟨k7, h⟩ := h
  refine zc_1_369 (x0 := (zs_R S 6004 b2)) (x1 := (-1 : Int32)) hB rfl k7 d_1061_98 (Nat.le_of_ble_eq_true rfl) h (fun v9 S8 h => ?_)
  refine zu_lge (t := 123) d_1061_101 d_1061_102 rfl (fun c10 => ?_) (fun c10 => ?_)
  · have h := h.1 c10
    exact zu_vret d_1061_123 zr_1061 h
  · have h := h.2 c10
    refine zu_aload_n d_1061_105 rfl (zs_ra _) ?_
    obtain ⟨k11, h⟩ := h
    refine zg_1_17 rfl d_1061_106 k11 ?_
    refine zu_iload_n d_1061_109 rfl ?_
    refine zu_iconst d_1061_110 zi_1 ?_
    refine zu_stk d_1061_111 rfl rfl ?_
    refine zu_iload d_1061_112 rfl ?_
    refine zu_stk d_1061_114 rfl rfl ?_
    refine zu_iconst d_1061_115 zi_0 ?_
    obtain ⟨b12, e13, h⟩ := h
    refine zs_stk2 (zs_rfe e13) ?_
    obtain ⟨k14, h⟩ := h
    obtain ⟨k15, h⟩ := h
    refine zu_bast_bool (k := 2) d_1061_116 rfl rfl k15 k14 ?_
    generalize e17 : zs_si S8 b12 ((p1 + (1 : Int32)) + p6).toNatClampNeg (vp_nar .boolean (0 : Int32)) = S16
    have h := h S16 e17.symm
    have K18 : ∀ b, zs_K S16 b = zs_K S8 b := zs_Kt e17 (zs_Ksi _ _ _ _) (fun _ => rfl)
    exact (u_X2_giveText_117 hB h).weak ⟨rfl, rfl, rfl, rfl, trivial⟩
def w_X2_giveText (X : zs_X) (d : Nat) (p0 : Nat) (p1 : Int32) (p2 : Option Nat) (p3 : Int32) (p4 : Int32) (S : zs_T) (Q : zs_Q) : Prop :=
  (((0 ≤ p3 → (w_X2_giveText_12 X d p0 p1 p2 p3 (p4 - p3) S Q)) ∧ (¬ (0 ≤ p3) → (w_X2_giveText_12 X d p0 p1 p2 p3 (1 : Int32) S Q))))
theorem u_X2_giveText {σ : Nat → Nat} {n0 : Nat} {bf : ab_B} {d : Nat} {p0 : Nat} {p1 : Int32} {p2 : Option Nat} {p3 : Int32} {p4 : Int32} {S : zs_T} {Q : zs_Q} (hB : zt_B bf) (hd : 1 ≤ d) (h : w_X2_giveText (zx σ n0 bf) (d - 1) p0 p1 p2 p3 p4 S Q) : zs_C (zx σ n0 bf) d 1061 [.ref p0, .int p1, va_rf p2, .int p3, .int p4] S Q := by
  have hL : lv_args 0 [.ref p0, .int p1, va_rf p2, .int p3, .int p4] = [(0, .ref p0), (1, .int p1), (2, va_rf p2), (3, .int p3), (4, .int p4)] := by simp [lv_args, zs_cat, zs_cI, zs_cJ, zs_cA]
  refine zs_C.of1 (hB.2 1061 (by decide) (by decide)) hd (by rw [hL]; exact zs_sub_self _ (by exact ⟨rfl, rfl, rfl, rfl, rfl, trivial⟩)) ?_
  rw [hL]
  clear hL
  unfold w_X2_giveText at h
  refine zu_iload_n d_1061_0 rfl ?_
  refine zu_ifge (t := 8) d_1061_1 rfl (fun c1 => ?_) (fun c1 => ?_)
  · have h := h.1 c1
    refine zu_iload d_1061_8 rfl ?_
    refine zu_iload_n d_1061_10 rfl ?_
    refine zu_stk d_1061_11 rfl rfl ?_
    exact (u_X2_giveText_12 hB h).weak ⟨rfl, rfl, rfl, rfl, trivial⟩
  · have h := h.2 c1
    refine zu_iconst d_1061_4 zi_1 ?_
    refine zu_goto (t := 12) d_1061_5 rfl ?_
    exact (u_X2_giveText_12 hB h).weak ⟨rfl, rfl, rfl, rfl, trivial⟩
/-! SchemaPascal$Machine.typeOf(II)LSchemaPascal$Type; -/
theorem zm_1062 {σ : Nat → Nat} {n0 : Nat} {bf : ab_B} : ab_code (zx σ n0 bf).1 1062 = prog_5_method_63_code := rfl
theorem zq_1062 {σ : Nat → Nat} {n0 : Nat} {bf : ab_B} : ab_maxL (zx σ n0 bf).1 1062 = 4 := rfl
theorem zr_1062 {σ : Nat → Nat} {n0 : Nat} {bf : ab_B} : ab_ret (zx σ n0 bf).1 1062 = (Option.some (Jvm.ClassFile.FieldType.object "SchemaPascal$Type")) := rfl
theorem d_1062_0 {σ : Nat → Nat} {n0 : Nat} {bf : ab_B} : decode (ab_code (zx σ n0 bf).1 1062) 0 = .ok (.aload_n 0, 1) := zd zm_1062 (by decide +kernel)
theorem d_1062_1 {σ : Nat → Nat} {n0 : Nat} {bf : ab_B} : decode (ab_code (zx σ n0 bf).1 1062) 1 = .ok (.getfield 57, 3) := zd zm_1062 (by decide +kernel)
theorem d_1062_4 {σ : Nat → Nat} {n0 : Nat} {bf : ab_B} : decode (ab_code (zx σ n0 bf).1 1062) 4 = .ok (.iload_n 1, 1) := zd zm_1062 (by decide +kernel)
theorem d_1062_5 {σ : Nat → Nat} {n0 : Nat} {bf : ab_B} : decode (ab_code (zx σ n0 bf).1 1062) 5 = .ok (.aaload, 1) := zd zm_1062 (by decide +kernel)
theorem d_1062_6 {σ : Nat → Nat} {n0 : Nat} {bf : ab_B} : decode (ab_code (zx σ n0 bf).1 1062) 6 = .ok (.astore_n 3, 1) := zd zm_1062 (by decide +kernel)
theorem d_1062_7 {σ : Nat → Nat} {n0 : Nat} {bf : ab_B} : decode (ab_code (zx σ n0 bf).1 1062) 7 = .ok (.iload_n 2, 1) := zd zm_1062 (by decide +kernel)
theorem d_1062_8 {σ : Nat → Nat} {n0 : Nat} {bf : ab_B} : decode (ab_code (zx σ n0 bf).1 1062) 8 = .ok (.aload_n 3, 1) := zd zm_1062 (by decide +kernel)
theorem d_1062_9 {σ : Nat → Nat} {n0 : Nat} {bf : ab_B} : decode (ab_code (zx σ n0 bf).1 1062) 9 = .ok (.getfield 514, 3) := zd zm_1062 (by decide +kernel)
theorem d_1062_12 {σ : Nat → Nat} {n0 : Nat} {bf : ab_B} : decode (ab_code (zx σ n0 bf).1 1062) 12 = .ok (.invokevirtual 336, 3) := zd zm_1062 (by decide +kernel)
theorem d_1062_15 {σ : Nat → Nat} {n0 : Nat} {bf : ab_B} : decode (ab_code (zx σ n0 bf).1 1062) 15 = .ok (.if_icmp .ge 18, 3) := zd zm_1062 (by decide +kernel)
theorem d_1062_18 {σ : Nat → Nat} {n0 : Nat} {bf : ab_B} : decode (ab_code (zx σ n0 bf).1 1062) 18 = .ok (.aload_n 3, 1) := zd zm_1062 (by decide +kernel)
theorem d_1062_19 {σ : Nat → Nat} {n0 : Nat} {bf : ab_B} : decode (ab_code (zx σ n0 bf).1 1062) 19 = .ok (.getfield 514, 3) := zd zm_1062 (by decide +kernel)
theorem d_1062_22 {σ : Nat → Nat} {n0 : Nat} {bf : ab_B} : decode (ab_code (zx σ n0 bf).1 1062) 22 = .ok (.iload_n 2, 1) := zd zm_1062 (by decide +kernel)
theorem d_1062_23 {σ : Nat → Nat} {n0 : Nat} {bf : ab_B} : decode (ab_code (zx σ n0 bf).1 1062) 23 = .ok (.invokevirtual 162, 3) := zd zm_1062 (by decide +kernel)
theorem d_1062_26 {σ : Nat → Nat} {n0 : Nat} {bf : ab_B} : decode (ab_code (zx σ n0 bf).1 1062) 26 = .ok (.checkcast 517, 3) := zd zm_1062 (by decide +kernel)
theorem d_1062_29 {σ : Nat → Nat} {n0 : Nat} {bf : ab_B} : decode (ab_code (zx σ n0 bf).1 1062) 29 = .ok (.getfield 522, 3) := zd zm_1062 (by decide +kernel)
theorem d_1062_32 {σ : Nat → Nat} {n0 : Nat} {bf : ab_B} : decode (ab_code (zx σ n0 bf).1 1062) 32 = .ok (.areturn, 1) := zd zm_1062 (by decide +kernel)
theorem d_1062_33 {σ : Nat → Nat} {n0 : Nat} {bf : ab_B} : decode (ab_code (zx σ n0 bf).1 1062) 33 = .ok (.iload_n 2, 1) := zd zm_1062 (by decide +kernel)
theorem d_1062_34 {σ : Nat → Nat} {n0 : Nat} {bf : ab_B} : decode (ab_code (zx σ n0 bf).1 1062) 34 = .ok (.aload_n 3, 1) := zd zm_1062 (by decide +kernel)
theorem d_1062_35 {σ : Nat → Nat} {n0 : Nat} {bf : ab_B} : decode (ab_code (zx σ n0 bf).1 1062) 35 = .ok (.getfield 514, 3) := zd zm_1062 (by decide +kernel)
theorem d_1062_38 {σ : Nat → Nat} {n0 : Nat} {bf : ab_B} : decode (ab_code (zx σ n0 bf).1 1062) 38 = .ok (.invokevirtual 336, 3) := zd zm_1062 (by decide +kernel)
theorem d_1062_41 {σ : Nat → Nat} {n0 : Nat} {bf : ab_B} : decode (ab_code (zx σ n0 bf).1 1062) 41 = .ok (.aload_n 3, 1) := zd zm_1062 (by decide +kernel)
theorem d_1062_42 {σ : Nat → Nat} {n0 : Nat} {bf : ab_B} : decode (ab_code (zx σ n0 bf).1 1062) 42 = .ok (.getfield 585, 3) := zd zm_1062 (by decide +kernel)
theorem d_1062_45 {σ : Nat → Nat} {n0 : Nat} {bf : ab_B} : decode (ab_code (zx σ n0 bf).1 1062) 45 = .ok (.invokevirtual 336, 3) := zd zm_1062 (by decide +kernel)
theorem d_1062_48 {σ : Nat → Nat} {n0 : Nat} {bf : ab_B} : decode (ab_code (zx σ n0 bf).1 1062) 48 = .ok (.iadd, 1) := zd zm_1062 (by decide +kernel)
theorem d_1062_49 {σ : Nat → Nat} {n0 : Nat} {bf : ab_B} : decode (ab_code (zx σ n0 bf).1 1062) 49 = .ok (.if_icmp .ge 28, 3) := zd zm_1062 (by decide +kernel)
theorem d_1062_52 {σ : Nat → Nat} {n0 : Nat} {bf : ab_B} : decode (ab_code (zx σ n0 bf).1 1062) 52 = .ok (.aload_n 3, 1) := zd zm_1062 (by decide +kernel)
theorem d_1062_53 {σ : Nat → Nat} {n0 : Nat} {bf : ab_B} : decode (ab_code (zx σ n0 bf).1 1062) 53 = .ok (.getfield 585, 3) := zd zm_1062 (by decide +kernel)
theorem d_1062_56 {σ : Nat → Nat} {n0 : Nat} {bf : ab_B} : decode (ab_code (zx σ n0 bf).1 1062) 56 = .ok (.iload_n 2, 1) := zd zm_1062 (by decide +kernel)
theorem d_1062_57 {σ : Nat → Nat} {n0 : Nat} {bf : ab_B} : decode (ab_code (zx σ n0 bf).1 1062) 57 = .ok (.aload_n 3, 1) := zd zm_1062 (by decide +kernel)
theorem d_1062_58 {σ : Nat → Nat} {n0 : Nat} {bf : ab_B} : decode (ab_code (zx σ n0 bf).1 1062) 58 = .ok (.getfield 514, 3) := zd zm_1062 (by decide +kernel)
theorem d_1062_61 {σ : Nat → Nat} {n0 : Nat} {bf : ab_B} : decode (ab_code (zx σ n0 bf).1 1062) 61 = .ok (.invokevirtual 336, 3) := zd zm_1062 (by decide +kernel)
theorem d_1062_64 {σ : Nat → Nat} {n0 : Nat} {bf : ab_B} : decode (ab_code (zx σ n0 bf).1 1062) 64 = .ok (.isub, 1) := zd zm_1062 (by decide +kernel)
theorem d_1062_65 {σ : Nat → Nat} {n0 : Nat} {bf : ab_B} : decode (ab_code (zx σ n0 bf).1 1062) 65 = .ok (.invokevirtual 162, 3) := zd zm_1062 (by decide +kernel)
theorem d_1062_68 {σ : Nat → Nat} {n0 : Nat} {bf : ab_B} : decode (ab_code (zx σ n0 bf).1 1062) 68 = .ok (.checkcast 517, 3) := zd zm_1062 (by decide +kernel)
theorem d_1062_71 {σ : Nat → Nat} {n0 : Nat} {bf : ab_B} : decode (ab_code (zx σ n0 bf).1 1062) 71 = .ok (.getfield 522, 3) := zd zm_1062 (by decide +kernel)
theorem d_1062_74 {σ : Nat → Nat} {n0 : Nat} {bf : ab_B} : decode (ab_code (zx σ n0 bf).1 1062) 74 = .ok (.goto 7, 3) := zd zm_1062 (by decide +kernel)
theorem d_1062_77 {σ : Nat → Nat} {n0 : Nat} {bf : ab_B} : decode (ab_code (zx σ n0 bf).1 1062) 77 = .ok (.aload_n 3, 1) := zd zm_1062 (by decide +kernel)
theorem d_1062_78 {σ : Nat → Nat} {n0 : Nat} {bf : ab_B} : decode (ab_code (zx σ n0 bf).1 1062) 78 = .ok (.getfield 539, 3) := zd zm_1062 (by decide +kernel)
theorem d_1062_81 {σ : Nat → Nat} {n0 : Nat} {bf : ab_B} : decode (ab_code (zx σ n0 bf).1 1062) 81 = .ok (.areturn, 1) := zd zm_1062 (by decide +kernel)
def w_X2_typeOf_52 (X : zs_X) (d : Nat) (p2 : Int32) (p3 : Option Nat) (S : zs_T) (Q : zs_Q) : Prop :=
  (∃ b1, p3 = some b1 ∧ zs_K S b1 = some (.inl 10) ∧ ∃ b4, (zs_R S 10004 b1) = some b4 ∧ zs_K S b4 = some (.inl 16) ∧ zs_C X d 16001 [.ref b4] S (zs_kI (fun v8 S7 => (∃ b9, (zs_R S 10005 b1) = some b9 ∧ zs_K S7 b9 = some (.inl 16) ∧ zs_C X d 16009 [.ref b9, .int (p2 - v8)] S7 (zs_kR (fun v13 S12 => ((∀ a, v13 = some a → zs_K S12 a = some (.inl 7)) ∧ ∃ b15, v13 = some b15 ∧ zs_K S12 b15 = some (.inl 7) ∧ Q (.returned (some (va_rf (zs_R S12 7002 b15)))) S12)) Q))) Q))
theorem u_X2_typeOf_52 {σ : Nat → Nat} {n0 : Nat} {bf : ab_B} {d : Nat} {p2 : Int32} {p3 : Option Nat} {S : zs_T} {Q : zs_Q} (hB : zt_B bf) (h : w_X2_typeOf_52 (zx σ n0 bf) d p2 p3 S Q) : zs_U (zx σ n0 bf) d 1062 52 [(2, .int p2), (3, va_rf p3)] [] S Q := by
  unfold w_X2_typeOf_52 at h
  refine zu_aload_n d_1062_52 rfl (zs_rr _) ?_
  obtain ⟨b1, e2, h⟩ := h
  refine zs_stk0 (zs_rfe e2) ?_
  obtain ⟨k3, h⟩ := h
  refine zg_1_585 rfl d_1062_53 k3 ?_
  refine zu_iload_n d_1062_56 rfl ?_
  refine zu_aload_n d_1062_57 rfl (zs_rr _) ?_
  refine zs_stk0 (zs_rfe e2) ?_
  refine zg_1_514 rfl d_1062_58 k3 ?_
  obtain ⟨b4, e5, h⟩ := h
  refine zs_stk0 (zs_rfe e5) ?_
  obtain ⟨k6, h⟩ := h
  refine zc_1_336  hB rfl k6 d_1062_61 (by simp only [List.map_cons, List.map_nil, List.sum_cons, List.sum_nil, zs_cat, zs_cI, zs_cJ, zs_cA]; exact Nat.le_of_ble_eq_true rfl) h (fun v8 S7 h => ?_)
  refine zu_stk d_1062_64 rfl rfl ?_
  obtain ⟨b9, e10, h⟩ := h
  refine zs_stk1 (zs_rfe e10) ?_
  obtain ⟨k11, h⟩ := h
  refine zc_1_162 (x0 := (p2 - v8)) hB rfl k11 d_1062_65 (Nat.le_of_ble_eq_true rfl) h (fun v13 S12 h => ?_)
  obtain ⟨k14, h⟩ := h
  refine zk_1_517 (o := v13) rfl d_1062_68 k14 ?_
  obtain ⟨b15, e16, h⟩ := h
  refine zs_stk0 (zs_rfe e16) ?_
  obtain ⟨k17, h⟩ := h
  refine zg_1_522 rfl d_1062_71 k17 ?_
  refine zu_goto (t := 81) d_1062_74 rfl ?_
  exact zu_aret d_1062_81 zr_1062 (zs_rr _) h
def w_X2_typeOf_77 (X : zs_X) (d : Nat) (p3 : Option Nat) (S : zs_T) (Q : zs_Q) : Prop :=
  (∃ b1, p3 = some b1 ∧ zs_K S b1 = some (.inl 10) ∧ Q (.returned (some (va_rf (zs_R S 10006 b1)))) S)
theorem u_X2_typeOf_77 {σ : Nat → Nat} {n0 : Nat} {bf : ab_B} {d : Nat} {p3 : Option Nat} {S : zs_T} {Q : zs_Q} (hB : zt_B bf) (h : w_X2_typeOf_77 (zx σ n0 bf) d p3 S Q) : zs_U (zx σ n0 bf) d 1062 77 [(3, va_rf p3)] [] S Q := by
  unfold w_X2_typeOf_77 at h
  refine zu_aload_n d_1062_77 rfl (zs_rr _) ?_
  obtain ⟨b1, e2, h⟩ := h
  refine zs_stk0 (zs_rfe e2) ?_
  obtain ⟨k3, h⟩ := h
  refine zg_1_539 rfl d_1062_78 k3 ?_
  exact zu_aret d_1062_81 zr_1062 (zs_rr _) h
def w_X2_typeOf (X : zs_X) (d : Nat) (p0 : Nat) (p1 : Int32) (p2 : Int32) (S : zs_T) (Q : zs_Q) : Prop :=
  (zs_K S p0 = some (.inl 1) ∧ ∃ b2, (zs_R S 1017 p0) = some b2 ∧ zs_A S b2 5 p1 ∧ ∃ b5, (zs_r S b2 p1.toNatClampNeg) = some b5 ∧ zs_K S b5 = some (.inl 10) ∧ ∃ b8, (zs_R S 10004 b5) = some b8 ∧ zs_K S b8 = some (.inl 16) ∧ zs_C X d 16001 [.ref b8] S (zs_kI (fun v12 S11 => (((v12 ≤ p2 → (zs_K S11 b5 = some (.inl 10) ∧ ∃ b15, (zs_R S11 10004 b5) = some b15 ∧ zs_K S11 b15 = some (.inl 16) ∧ zs_C X d 16001 [.ref b15] S11 (zs_kI (fun v19 S18 => (zs_K S18 b5 = some (.inl 10) ∧ ∃ b21, (zs_R S18 10005 b5) = some b21 ∧ zs_K S18 b21 = some (.inl 16) ∧ zs_C X d 16001 [.ref b21] S18 (zs_kI (fun v25 S24 => ((((v19 + v25) ≤ p2 → w_X2_typeOf_77 X d (zs_r S b2 p1.toNatClampNeg) S24 Q) ∧ (¬ ((v19 + v25) ≤ p2) → w_X2_typeOf_52 X d p2 (zs_r S b2 p1.toNatClampNeg) S24 Q)))) Q))) Q))) ∧ (¬ (v12 ≤ p2) → (zs_K S11 b5 = some (.inl 10) ∧ ∃ b28, (zs_R S11 10004 b5) = some b28 ∧ zs_K S11 b28 = some (.inl 16) ∧ zs_C X d 16009 [.ref b28, .int p2] S11 (zs_kR (fun v32 S31 => ((∀ a, v32 = some a → zs_K S31 a = some (.inl 7)) ∧ ∃ b34, v32 = some b34 ∧ zs_K S31 b34 = some (.inl 7) ∧ Q (.returned (some (va_rf (zs_R S31 7002 b34)))) S31)) Q)))))) Q))
theorem u_X2_typeOf {σ : Nat → Nat} {n0 : Nat} {bf : ab_B} {d : Nat} {p0 : Nat} {p1 : Int32} {p2 : Int32} {S : zs_T} {Q : zs_Q} (hB : zt_B bf) (hd : 1 ≤ d) (h : w_X2_typeOf (zx σ n0 bf) (d - 1) p0 p1 p2 S Q) : zs_C (zx σ n0 bf) d 1062 [.ref p0, .int p1, .int p2] S Q := by
  have hL : lv_args 0 [.ref p0, .int p1, .int p2] = [(0, .ref p0), (1, .int p1), (2, .int p2)] := rfl
  refine zs_C.of1 (hB.2 1062 (by decide) (by decide)) hd (by rw [hL]; exact zs_sub_self _ (by exact ⟨rfl, rfl, rfl, trivial⟩)) ?_
  rw [hL]
  clear hL
  unfold w_X2_typeOf at h
  refine zu_aload_n d_1062_0 rfl (zs_ra _) ?_
  obtain ⟨k1, h⟩ := h
  refine zg_1_57 rfl d_1062_1 k1 ?_
  refine zu_iload_n d_1062_4 rfl ?_
  obtain ⟨b2, e3, h⟩ := h
  refine zs_stk1 (zs_rfe e3) ?_
  obtain ⟨k4, h⟩ := h
  refine zu_aald (k := 5) d_1062_5 rfl rfl k4 ?_
  refine zu_astore_n d_1062_6 (zs_rr _) (zs_lt zq_1062 rfl) ?_
  refine zu_iload_n d_1062_7 rfl ?_
  refine zu_aload_n d_1062_8 rfl (zs_rr _) ?_
  obtain ⟨b5, e6, h⟩ := h
  refine zs_stk0 (zs_rfe e6) ?_
  obtain ⟨k7, h⟩ := h
  refine zg_1_514 rfl d_1062_9 k7 ?_
  obtain ⟨b8, e9, h⟩ := h
  refine zs_stk0 (zs_rfe e9) ?_
  obtain ⟨k10, h⟩ := h
  refine zc_1_336  hB rfl k10 d_1062_12 (Nat.le_of_ble_eq_true rfl) h (fun v12 S11 h => ?_)
  refine zu_cmpge (t := 33) d_1062_15 rfl (fun c13 => ?_) (fun c13 => ?_)
  · have h := h.1 c13
    refine zu_iload_n d_1062_33 rfl ?_
    refine zu_aload_n d_1062_34 rfl (zs_rr _) ?_
    refine zs_stk0 (zs_rfe e6) ?_
    obtain ⟨k14, h⟩ := h
    refine zg_1_514 rfl d_1062_35 k14 ?_
    obtain ⟨b15, e16, h⟩ := h
    refine zs_stk0 (zs_rfe e16) ?_
    obtain ⟨k17, h⟩ := h
    refine zc_1_336  hB rfl k17 d_1062_38 (Nat.le_of_ble_eq_true rfl) h (fun v19 S18 h => ?_)
    refine zu_aload_n d_1062_41 rfl (zs_rr _) ?_
    refine zs_stk0 (zs_rfe e6) ?_
    obtain ⟨k20, h⟩ := h
    refine zg_1_585 rfl d_1062_42 k20 ?_
    obtain ⟨b21, e22, h⟩ := h
    refine zs_stk0 (zs_rfe e22) ?_
    obtain ⟨k23, h⟩ := h
    refine zc_1_336  hB rfl k23 d_1062_45 (Nat.le_of_ble_eq_true rfl) h (fun v25 S24 h => ?_)
    refine zu_stk d_1062_48 rfl rfl ?_
    refine zu_cmpge (t := 77) d_1062_49 rfl (fun c26 => ?_) (fun c26 => ?_)
    · have h := h.1 c26
      exact (u_X2_typeOf_77 hB h).weak ⟨rfl, trivial⟩
    · have h := h.2 c26
      exact (u_X2_typeOf_52 hB h).weak ⟨rfl, rfl, trivial⟩
  · have h := h.2 c13
    refine zu_aload_n d_1062_18 rfl (zs_rr _) ?_
    refine zs_stk0 (zs_rfe e6) ?_
    obtain ⟨k27, h⟩ := h
    refine zg_1_514 rfl d_1062_19 k27 ?_
    refine zu_iload_n d_1062_22 rfl ?_
    obtain ⟨b28, e29, h⟩ := h
    refine zs_stk1 (zs_rfe e29) ?_
    obtain ⟨k30, h⟩ := h
    refine zc_1_162 (x0 := p2) hB rfl k30 d_1062_23 (Nat.le_of_ble_eq_true rfl) h (fun v32 S31 h => ?_)
    obtain ⟨k33, h⟩ := h
    refine zk_1_517 (o := v32) rfl d_1062_26 k33 ?_
    obtain ⟨b34, e35, h⟩ := h
    refine zs_stk0 (zs_rfe e35) ?_
    obtain ⟨k36, h⟩ := h
    refine zg_1_522 rfl d_1062_29 k36 ?_
    exact zu_aret d_1062_32 zr_1062 (zs_rr _) h
/-! SchemaPascal$Reader.<init>(LSchemaPascal$Shapes;LSchemaPascal$Program;)V -/
theorem zm_4000 {σ : Nat → Nat} {n0 : Nat} {bf : ab_B} : ab_code (zx σ n0 bf).1 4000 = prog_9_method_46_code := rfl
theorem zq_4000 {σ : Nat → Nat} {n0 : Nat} {bf : ab_B} : ab_maxL (zx σ n0 bf).1 4000 = 3 := rfl
theorem zr_4000 {σ : Nat → Nat} {n0 : Nat} {bf : ab_B} : ab_ret (zx σ n0 bf).1 4000 = (Option.none : Option Jvm.ClassFile.FieldType) := rfl
theorem d_4000_0 {σ : Nat → Nat} {n0 : Nat} {bf : ab_B} : decode (ab_code (zx σ n0 bf).1 4000) 0 = .ok (.aload_n 0, 1) := zd zm_4000 (by decide +kernel)
theorem d_4000_1 {σ : Nat → Nat} {n0 : Nat} {bf : ab_B} : decode (ab_code (zx σ n0 bf).1 4000) 1 = .ok (.invokespecial 548, 3) := zd zm_4000 (by decide +kernel)
theorem d_4000_4 {σ : Nat → Nat} {n0 : Nat} {bf : ab_B} : decode (ab_code (zx σ n0 bf).1 4000) 4 = .ok (.aload_n 0, 1) := zd zm_4000 (by decide +kernel)
theorem d_4000_5 {σ : Nat → Nat} {n0 : Nat} {bf : ab_B} : decode (ab_code (zx σ n0 bf).1 4000) 5 = .ok (.new 12, 3) := zd zm_4000 (by decide +kernel)
theorem d_4000_8 {σ : Nat → Nat} {n0 : Nat} {bf : ab_B} : decode (ab_code (zx σ n0 bf).1 4000) 8 = .ok (.dup, 1) := zd zm_4000 (by decide +kernel)
theorem d_4000_9 {σ : Nat → Nat} {n0 : Nat} {bf : ab_B} : decode (ab_code (zx σ n0 bf).1 4000) 9 = .ok (.invokespecial 551, 3) := zd zm_4000 (by decide +kernel)
theorem d_4000_12 {σ : Nat → Nat} {n0 : Nat} {bf : ab_B} : decode (ab_code (zx σ n0 bf).1 4000) 12 = .ok (.putfield 5, 3) := zd zm_4000 (by decide +kernel)
theorem d_4000_15 {σ : Nat → Nat} {n0 : Nat} {bf : ab_B} : decode (ab_code (zx σ n0 bf).1 4000) 15 = .ok (.aload_n 0, 1) := zd zm_4000 (by decide +kernel)
theorem d_4000_16 {σ : Nat → Nat} {n0 : Nat} {bf : ab_B} : decode (ab_code (zx σ n0 bf).1 4000) 16 = .ok (.new 51, 3) := zd zm_4000 (by decide +kernel)
theorem d_4000_19 {σ : Nat → Nat} {n0 : Nat} {bf : ab_B} : decode (ab_code (zx σ n0 bf).1 4000) 19 = .ok (.dup, 1) := zd zm_4000 (by decide +kernel)
theorem d_4000_20 {σ : Nat → Nat} {n0 : Nat} {bf : ab_B} : decode (ab_code (zx σ n0 bf).1 4000) 20 = .ok (.invokespecial 326, 3) := zd zm_4000 (by decide +kernel)
theorem d_4000_23 {σ : Nat → Nat} {n0 : Nat} {bf : ab_B} : decode (ab_code (zx σ n0 bf).1 4000) 23 = .ok (.putfield 46, 3) := zd zm_4000 (by decide +kernel)
theorem d_4000_26 {σ : Nat → Nat} {n0 : Nat} {bf : ab_B} : decode (ab_code (zx σ n0 bf).1 4000) 26 = .ok (.aload_n 0, 1) := zd zm_4000 (by decide +kernel)
theorem d_4000_27 {σ : Nat → Nat} {n0 : Nat} {bf : ab_B} : decode (ab_code (zx σ n0 bf).1 4000) 27 = .ok (.new 51, 3) := zd zm_4000 (by decide +kernel)
theorem d_4000_30 {σ : Nat → Nat} {n0 : Nat} {bf : ab_B} : decode (ab_code (zx σ n0 bf).1 4000) 30 = .ok (.dup, 1) := zd zm_4000 (by decide +kernel)
theorem d_4000_31 {σ : Nat → Nat} {n0 : Nat} {bf : ab_B} : decode (ab_code (zx σ n0 bf).1 4000) 31 = .ok (.invokespecial 326, 3) := zd zm_4000 (by decide +kernel)
theorem d_4000_34 {σ : Nat → Nat} {n0 : Nat} {bf : ab_B} : decode (ab_code (zx σ n0 bf).1 4000) 34 = .ok (.putfield 186, 3) := zd zm_4000 (by decide +kernel)
theorem d_4000_37 {σ : Nat → Nat} {n0 : Nat} {bf : ab_B} : decode (ab_code (zx σ n0 bf).1 4000) 37 = .ok (.aload_n 0, 1) := zd zm_4000 (by decide +kernel)
theorem d_4000_38 {σ : Nat → Nat} {n0 : Nat} {bf : ab_B} : decode (ab_code (zx σ n0 bf).1 4000) 38 = .ok (.new 51, 3) := zd zm_4000 (by decide +kernel)
theorem d_4000_41 {σ : Nat → Nat} {n0 : Nat} {bf : ab_B} : decode (ab_code (zx σ n0 bf).1 4000) 41 = .ok (.dup, 1) := zd zm_4000 (by decide +kernel)
theorem d_4000_42 {σ : Nat → Nat} {n0 : Nat} {bf : ab_B} : decode (ab_code (zx σ n0 bf).1 4000) 42 = .ok (.invokespecial 326, 3) := zd zm_4000 (by decide +kernel)
theorem d_4000_45 {σ : Nat → Nat} {n0 : Nat} {bf : ab_B} : decode (ab_code (zx σ n0 bf).1 4000) 45 = .ok (.putfield 191, 3) := zd zm_4000 (by decide +kernel)
theorem d_4000_48 {σ : Nat → Nat} {n0 : Nat} {bf : ab_B} : decode (ab_code (zx σ n0 bf).1 4000) 48 = .ok (.aload_n 0, 1) := zd zm_4000 (by decide +kernel)
theorem d_4000_49 {σ : Nat → Nat} {n0 : Nat} {bf : ab_B} : decode (ab_code (zx σ n0 bf).1 4000) 49 = .ok (.new 51, 3) := zd zm_4000 (by decide +kernel)
theorem d_4000_52 {σ : Nat → Nat} {n0 : Nat} {bf : ab_B} : decode (ab_code (zx σ n0 bf).1 4000) 52 = .ok (.dup, 1) := zd zm_4000 (by decide +kernel)
theorem d_4000_53 {σ : Nat → Nat} {n0 : Nat} {bf : ab_B} : decode (ab_code (zx σ n0 bf).1 4000) 53 = .ok (.invokespecial 326, 3) := zd zm_4000 (by decide +kernel)
theorem d_4000_56 {σ : Nat → Nat} {n0 : Nat} {bf : ab_B} : decode (ab_code (zx σ n0 bf).1 4000) 56 = .ok (.putfield 194, 3) := zd zm_4000 (by decide +kernel)
theorem d_4000_59 {σ : Nat → Nat} {n0 : Nat} {bf : ab_B} : decode (ab_code (zx σ n0 bf).1 4000) 59 = .ok (.aload_n 0, 1) := zd zm_4000 (by decide +kernel)
theorem d_4000_60 {σ : Nat → Nat} {n0 : Nat} {bf : ab_B} : decode (ab_code (zx σ n0 bf).1 4000) 60 = .ok (.aload_n 1, 1) := zd zm_4000 (by decide +kernel)
theorem d_4000_61 {σ : Nat → Nat} {n0 : Nat} {bf : ab_B} : decode (ab_code (zx σ n0 bf).1 4000) 61 = .ok (.putfield 384, 3) := zd zm_4000 (by decide +kernel)
theorem d_4000_64 {σ : Nat → Nat} {n0 : Nat} {bf : ab_B} : decode (ab_code (zx σ n0 bf).1 4000) 64 = .ok (.aload_n 0, 1) := zd zm_4000 (by decide +kernel)
theorem d_4000_65 {σ : Nat → Nat} {n0 : Nat} {bf : ab_B} : decode (ab_code (zx σ n0 bf).1 4000) 65 = .ok (.aload_n 2, 1) := zd zm_4000 (by decide +kernel)
theorem d_4000_66 {σ : Nat → Nat} {n0 : Nat} {bf : ab_B} : decode (ab_code (zx σ n0 bf).1 4000) 66 = .ok (.putfield 128, 3) := zd zm_4000 (by decide +kernel)
theorem d_4000_69 {σ : Nat → Nat} {n0 : Nat} {bf : ab_B} : decode (ab_code (zx σ n0 bf).1 4000) 69 = .ok (.aload_n 0, 1) := zd zm_4000 (by decide +kernel)
theorem d_4000_70 {σ : Nat → Nat} {n0 : Nat} {bf : ab_B} : decode (ab_code (zx σ n0 bf).1 4000) 70 = .ok (.invokevirtual 552, 3) := zd zm_4000 (by decide +kernel)
theorem d_4000_73 {σ : Nat → Nat} {n0 : Nat} {bf : ab_B} : decode (ab_code (zx σ n0 bf).1 4000) 73 = .ok (.aload_n 0, 1) := zd zm_4000 (by decide +kernel)
theorem d_4000_74 {σ : Nat → Nat} {n0 : Nat} {bf : ab_B} : decode (ab_code (zx σ n0 bf).1 4000) 74 = .ok (.aload_n 0, 1) := zd zm_4000 (by decide +kernel)
theorem d_4000_75 {σ : Nat → Nat} {n0 : Nat} {bf : ab_B} : decode (ab_code (zx σ n0 bf).1 4000) 75 = .ok (.getfield 128, 3) := zd zm_4000 (by decide +kernel)
theorem d_4000_78 {σ : Nat → Nat} {n0 : Nat} {bf : ab_B} : decode (ab_code (zx σ n0 bf).1 4000) 78 = .ok (.getfield 132, 3) := zd zm_4000 (by decide +kernel)
theorem d_4000_81 {σ : Nat → Nat} {n0 : Nat} {bf : ab_B} : decode (ab_code (zx σ n0 bf).1 4000) 81 = .ok (.invokevirtual 50, 3) := zd zm_4000 (by decide +kernel)
theorem d_4000_84 {σ : Nat → Nat} {n0 : Nat} {bf : ab_B} : decode (ab_code (zx σ n0 bf).1 4000) 84 = .ok (.putfield 174, 3) := zd zm_4000 (by decide +kernel)
theorem d_4000_87 {σ : Nat → Nat} {n0 : Nat} {bf : ab_B} : decode (ab_code (zx σ n0 bf).1 4000) 87 = .ok (.aload_n 0, 1) := zd zm_4000 (by decide +kernel)
theorem d_4000_88 {σ : Nat → Nat} {n0 : Nat} {bf : ab_B} : decode (ab_code (zx σ n0 bf).1 4000) 88 = .ok (.aload_n 0, 1) := zd zm_4000 (by decide +kernel)
theorem d_4000_89 {σ : Nat → Nat} {n0 : Nat} {bf : ab_B} : decode (ab_code (zx σ n0 bf).1 4000) 89 = .ok (.getfield 46, 3) := zd zm_4000 (by decide +kernel)
theorem d_4000_92 {σ : Nat → Nat} {n0 : Nat} {bf : ab_B} : decode (ab_code (zx σ n0 bf).1 4000) 92 = .ok (.invokevirtual 50, 3) := zd zm_4000 (by decide +kernel)
theorem d_4000_95 {σ : Nat → Nat} {n0 : Nat} {bf : ab_B} : decode (ab_code (zx σ n0 bf).1 4000) 95 = .ok (.putfield 180, 3) := zd zm_4000 (by decide +kernel)
theorem d_4000_98 {σ : Nat → Nat} {n0 : Nat} {bf : ab_B} : decode (ab_code (zx σ n0 bf).1 4000) 98 = .ok (.return_, 1) := zd zm_4000 (by decide +kernel)
def w_X5_init_69 (X : zs_X) (d : Nat) (p0 : Nat) (S : zs_T) (Q : zs_Q) : Prop :=
  (zs_K S p0 = some (.inl 4) ∧ zs_C X d 4001 [.ref p0] S (zs_kV (fun S2 => (zs_K S2 p0 = some (.inl 4) ∧ ∃ b5, (zs_R S2 4001 p0) = some b5 ∧ zs_K S2 b5 = some (.inl 3) ∧ ∃ b8, (zs_R S2 3002 b5) = some b8 ∧ zs_K S2 b8 = some (.inl 16) ∧ zs_C X d 16001 [.ref b8] S2 (zs_kI (fun v12 S11 => (zs_K S11 p0 = some (.inl 4) ∧ ab_n0 X.1 ≤ p0 ∧ ∀ S15, S15 = zs_sI S11 4019 p0 v12 → ∃ b18, (zs_R S15 4008 p0) = some b18 ∧ zs_K S11 b18 = some (.inl 16) ∧ zs_C X d 16001 [.ref b18] S15 (zs_kI (fun v22 S21 => (zs_K S21 p0 = some (.inl 4) ∧ ∀ S24, S24 = zs_sI S21 4020 p0 v22 → Q (.returned none) S24)) Q))) Q))) Q))
theorem u_X5_init_69 {σ : Nat → Nat} {n0 : Nat} {bf : ab_B} {d : Nat} {p0 : Nat} {S : zs_T} {Q : zs_Q} (hB : zt_B bf) (h : w_X5_init_69 (zx σ n0 bf) d p0 S Q) : zs_U (zx σ n0 bf) d 4000 69 [(0, .ref p0)] [] S Q := by
  unfold w_X5_init_69 at h
  refine zu_aload_n d_4000_69 rfl (zs_ra _) ?_
  obtain ⟨k1, h⟩ := h
  refine zc_4_552  hB rfl k1 d_4000_70 (Nat.le_of_ble_eq_true rfl) h (fun S2 h => ?_)
  refine zu_aload_n d_4000_73 rfl (zs_ra _) ?_
  refine zu_aload_n d_4000_74 rfl (zs_ra _) ?_
  obtain ⟨k4, h⟩ := h
  refine zg_4_128 rfl d_4000_75 k4 ?_
  obtain ⟨b5, e6, h⟩ := h
  refine zs_stk0 (zs_rfe e6) ?_
  obtain ⟨k7, h⟩ := h
  refine zg_4_132 rfl d_4000_78 k7 ?_
  obtain ⟨b8, e9, h⟩ := h
  refine zs_stk0 (zs_rfe e9) ?_
  obtain ⟨k10, h⟩ := h
  refine zc_4_50  hB rfl k10 d_4000_81 (Nat.le_of_ble_eq_true rfl) h (fun v12 S11 h => ?_)
  obtain ⟨k13, h⟩ := h
  obtain ⟨k14, h⟩ := h
  refine zp_4_174 (v := v12) rfl d_4000_84 k13 k14 ?_
  generalize e16 : zs_sI S11 4019 p0 v12 = S15
  have h := h S15 e16.symm
  have K17 : ∀ b, zs_K S15 b = zs_K S11 b := zs_Kt e16 (zs_KsI _ _ _ _) (fun _ => rfl)
  refine zu_aload_n d_4000_87 rfl (zs_ra _) ?_
  refine zu_aload_n d_4000_88 rfl (zs_ra _) ?_
  refine zg_4_46 rfl d_4000_89 ((K17 _).trans k13) ?_
  obtain ⟨b18, e19, h⟩ := h
  refine zs_stk0 (zs_rfe e19) ?_
  obtain ⟨k20, h⟩ := h
  refine zc_4_50  hB rfl ((K17 _).trans k20) d_4000_92 (Nat.le_of_ble_eq_true rfl) h (fun v22 S21 h => ?_)
  obtain ⟨k23, h⟩ := h
  refine zp_4_180 (v := v22) rfl d_4000_95 k23 k14 ?_
  generalize e25 : zs_sI S21 4020 p0 v22 = S24
  have h := h S24 e25.symm
  have K26 : ∀ b, zs_K S24 b = zs_K S21 b := zs_Kt e25 (zs_KsI _ _ _ _) (fun _ => rfl)
  exact zu_vret d_4000_98 zr_4000 h
def w_X5_init_37 (X : zs_X) (d : Nat) (p0 : Nat) (p1 : Option Nat) (p2 : Option Nat) (S : zs_T) (Q : zs_Q) : Prop :=
  (∀ a1 S2, a1 = zs_N S → S2 = zs_nw S (.inl 16) 3 → zs_C X d 16000 [.ref a1] S2 (zs_kV (fun S6 => (zs_K S6 p0 = some (.inl 4) ∧ ab_n0 X.1 ≤ p0 ∧ ∀ S10, S10 = zs_sR S6 4014 p0 (some a1) → ∀ a13 S14, a13 = zs_N S10 → S14 = zs_nw S10 (.inl 16) 3 → zs_C X d 16000 [.ref a13] S14 (zs_kV (fun S18 => (zs_K S18 p0 = some (.inl 4) ∧ ∀ S21, S21 = zs_sR S18 4015 p0 (some a13) → ∀ S24, S24 = zs_sR S21 4018 p0 p1 → ∀ S27, S27 = zs_sR S24 4001 p0 p2 → w_X5_init_69 X d p0 S27 Q)) Q))) Q))
theorem u_X5_init_37 {σ : Nat → Nat} {n0 : Nat} {bf : ab_B} {d : Nat} {p0 : Nat} {p1 : Option Nat} {p2 : Option Nat} {S : zs_T} {Q : zs_Q} (hB : zt_B bf) (h : w_X5_init_37 (zx σ n0 bf) d p0 p1 p2 S Q) : zs_U (zx σ n0 bf) d 4000 37 [(0, .ref p0), (1, va_rf p1), (2, va_rf p2)] [] S Q := by
  unfold w_X5_init_37 at h
  refine zu_aload_n d_4000_37 rfl (zs_ra _) ?_
  refine zn_4_51 rfl d_4000_38 ?_
  generalize e4 : zs_nw S (.inl 16) 3 = S2
  generalize e3 : zs_N S = a1
  have h := h a1 S2 e3.symm e4.symm
  have k5 := zs_kn e3 e4
  refine zu_dup d_4000_41 rfl ?_
  refine zc_4_326  hB rfl d_4000_42 (Nat.le_of_ble_eq_true rfl) h (fun S6 h => ?_)
  obtain ⟨k8, h⟩ := h
  obtain ⟨k9, h⟩ := h
  refine zp_4_191 (v := (some a1)) rfl d_4000_45 k8 k9 ?_
  generalize e11 : zs_sR S6 4014 p0 (some a1) = S10
  have h := h S10 e11.symm
  have K12 : ∀ b, zs_K S10 b = zs_K S6 b := zs_Kt e11 (zs_KsR _ _ _ _) (fun _ => rfl)
  refine zu_aload_n d_4000_48 rfl (zs_ra _) ?_
  refine zn_4_51 rfl d_4000_49 ?_
  generalize e16 : zs_nw S10 (.inl 16) 3 = S14
  generalize e15 : zs_N S10 = a13
  have h := h a13 S14 e15.symm e16.symm
  have k17 := zs_kn e15 e16
  refine zu_dup d_4000_52 rfl ?_
  refine zc_4_326  hB rfl d_4000_53 (Nat.le_of_ble_eq_true rfl) h (fun S18 h => ?_)
  obtain ⟨k20, h⟩ := h
  refine zp_4_194 (v := (some a13)) rfl d_4000_56 k20 k9 ?_
  generalize e22 : zs_sR S18 4015 p0 (some a13) = S21
  have h := h S21 e22.symm
  have K23 : ∀ b, zs_K S21 b = zs_K S18 b := zs_Kt e22 (zs_KsR _ _ _ _) (fun _ => rfl)
  refine zu_aload_n d_4000_59 rfl (zs_ra _) ?_
  refine zu_aload_n d_4000_60 rfl (zs_rr _) ?_
  refine zp_4_384 (v := p1) rfl d_4000_61 ((K23 _).trans k20) k9 ?_
  generalize e25 : zs_sR S21 4018 p0 p1 = S24
  have h := h S24 e25.symm
  have K26 : ∀ b, zs_K S24 b = zs_K S18 b := zs_Kt e25 (zs_KsR _ _ _ _) K23
  refine zu_aload_n d_4000_64 rfl (zs_ra _) ?_
  refine zu_aload_n d_4000_65 rfl (zs_rr _) ?_
  refine zp_4_128 (v := p2) rfl d_4000_66 ((K26 _).trans k20) k9 ?_
  generalize e28 : zs_sR S24 4001 p0 p2 = S27
  have h := h S27 e28.symm
  have K29 : ∀ b, zs_K S27 b = zs_K S18 b := zs_Kt e28 (zs_KsR _ _ _ _) K26
  exact (u_X5_init_69 hB h).weak ⟨rfl, trivial⟩
def w_X5_init (X : zs_X) (d : Nat) (p0 : Nat) (p1 : Option Nat) (p2 : Option Nat) (S : zs_T) (Q : zs_Q) : Prop :=
  (zs_C X d 39000 [.ref p0] S (zs_kV (fun S1 => (∀ a3 S4, a3 = zs_N S1 → S4 = zs_nw S1 (.inl 5) 13 → zs_C X d 5000 [.ref a3] S4 (zs_kV (fun S8 => (zs_K S8 p0 = some (.inl 4) ∧ ab_n0 X.1 ≤ p0 ∧ ∀ S12, S12 = zs_sR S8 4000 p0 (some a3) → ∀ a15 S16, a15 = zs_N S12 → S16 = zs_nw S12 (.inl 16) 3 → zs_C X d 16000 [.ref a15] S16 (zs_kV (fun S20 => (zs_K S20 p0 = some (.inl 4) ∧ ∀ S23, S23 = zs_sR S20 4008 p0 (some a15) → ∀ a26 S27, a26 = zs_N S23 → S27 = zs_nw S23 (.inl 16) 3 → zs_C X d 16000 [.ref a26] S27 (zs_kV (fun S31 => (zs_K S31 p0 = some (.inl 4) ∧ ∀ S34, S34 = zs_sR S31 4013 p0 (some a26) → w_X5_init_37 X d p0 p1 p2 S34 Q)) Q))) Q))) Q))) Q))
theorem u_X5_init {σ : Nat → Nat} {n0 : Nat} {bf : ab_B} {d : Nat} {p0 : Nat} {p1 : Option Nat} {p2 : Option Nat} {S : zs_T} {Q : zs_Q} (hB : zt_B bf) (hd : 1 ≤ d) (h : w_X5_init (zx σ n0 bf) (d - 1) p0 p1 p2 S Q) : zs_C (zx σ n0 bf) d 4000 [.ref p0, va_rf p1, va_rf p2] S Q := by
  have hL : lv_args 0 [.ref p0, va_rf p1, va_rf p2] = [(0, .ref p0), (1, va_rf p1), (2, va_rf p2)] := by simp [lv_args, zs_cat, zs_cI, zs_cJ, zs_cA]
  refine zs_C.of1 (hB.2 4000 (by decide) (by decide)) hd (by rw [hL]; exact zs_sub_self _ (by exact ⟨rfl, rfl, rfl, trivial⟩)) ?_
  rw [hL]
  clear hL
  unfold w_X5_init at h
  refine zu_aload_n d_4000_0 rfl (zs_ra _) ?_
  refine zc_4_548  hB rfl d_4000_1 (Nat.le_of_ble_eq_true rfl) h (fun S1 h => ?_)
  refine zu_aload_n d_4000_4 rfl (zs_ra _) ?_
  refine zn_4_12 rfl d_4000_5 ?_
  generalize e6 : zs_nw S1 (.inl 5) 13 = S4
  generalize e5 : zs_N S1 = a3
  have h := h a3 S4 e5.symm e6.symm
  have k7 := zs_kn e5 e6
  refine zu_dup d_4000_8 rfl ?_
  refine zc_4_551  hB rfl d_4000_9 (Nat.le_of_ble_eq_true rfl) h (fun S8 h => ?_)
  obtain ⟨k10, h⟩ := h
  obtain ⟨k11, h⟩ := h
  refine zp_4_5 (v := (some a3)) rfl d_4000_12 k10 k11 ?_
  generalize e13 : zs_sR S8 4000 p0 (some a3) = S12
  have h := h S12 e13.symm
  have K14 : ∀ b, zs_K S12 b = zs_K S8 b := zs_Kt e13 (zs_KsR _ _ _ _) (fun _ => rfl)
  refine zu_aload_n d_4000_15 rfl (zs_ra _) ?_
  refine zn_4_51 rfl d_4000_16 ?_
  generalize e18 : zs_nw S12 (.inl 16) 3 = S16
  generalize e17 : zs_N S12 = a15
  have h := h a15 S16 e17.symm e18.symm
  have k19 := zs_kn e17 e18
  refine zu_dup d_4000_19 rfl ?_
  refine zc_4_326  hB rfl d_4000_20 (Nat.le_of_ble_eq_true rfl) h (fun S20 h => ?_)
  obtain ⟨k22, h⟩ := h
  refine zp_4_46 (v := (some a15)) rfl d_4000_23 k22 k11 ?_
  generalize e24 : zs_sR S20 4008 p0 (some a15) = S23
  have h := h S23 e24.symm
  have K25 : ∀ b, zs_K S23 b = zs_K S20 b := zs_Kt e24 (zs_KsR _ _ _ _) (fun _ => rfl)
  refine zu_aload_n d_4000_26 rfl (zs_ra _) ?_
  refine zn_4_51 rfl d_4000_27 ?_
  generalize e29 : zs_nw S23 (.inl 16) 3 = S27
  generalize e28 : zs_N S23 = a26
  have h := h a26 S27 e28.symm e29.symm
  have k30 := zs_kn e28 e29
  refine zu_dup d_4000_30 rfl ?_
  refine zc_4_326  hB rfl d_4000_31 (Nat.le_of_ble_eq_true rfl) h (fun S31 h => ?_)
  obtain ⟨k33, h⟩ := h
  refine zp_4_186 (v := (some a26)) rfl d_4000_34 k33 k11 ?_
  generalize e35 : zs_sR S31 4013 p0 (some a26) = S34
  have h := h S34 e35.symm
  have K36 : ∀ b, zs_K S34 b = zs_K S31 b := zs_Kt e35 (zs_KsR _ _ _ _) (fun _ => rfl)
  exact (u_X5_init_37 hB h).weak ⟨rfl, rfl, rfl, trivial⟩
/-! SchemaPascal$Reader.addKnown()V -/
theorem zm_4001 {σ : Nat → Nat} {n0 : Nat} {bf : ab_B} : ab_code (zx σ n0 bf).1 4001 = prog_9_method_12_code := rfl
theorem zq_4001 {σ : Nat → Nat} {n0 : Nat} {bf : ab_B} : ab_maxL (zx σ n0 bf).1 4001 = 3 := rfl
theorem zr_4001 {σ : Nat → Nat} {n0 : Nat} {bf : ab_B} : ab_ret (zx σ n0 bf).1 4001 = (Option.none : Option Jvm.ClassFile.FieldType) := rfl
theorem d_4001_0 {σ : Nat → Nat} {n0 : Nat} {bf : ab_B} : decode (ab_code (zx σ n0 bf).1 4001) 0 = .ok (.aload_n 0, 1) := zd zm_4001 (by decide +kernel)
theorem d_4001_1 {σ : Nat → Nat} {n0 : Nat} {bf : ab_B} : decode (ab_code (zx σ n0 bf).1 4001) 1 = .ok (.aload_n 0, 1) := zd zm_4001 (by decide +kernel)
theorem d_4001_2 {σ : Nat → Nat} {n0 : Nat} {bf : ab_B} : decode (ab_code (zx σ n0 bf).1 4001) 2 = .ok (.iconst 0, 1) := zd zm_4001 (by decide +kernel)
theorem d_4001_3 {σ : Nat → Nat} {n0 : Nat} {bf : ab_B} : decode (ab_code (zx σ n0 bf).1 4001) 3 = .ok (.invokevirtual 144, 3) := zd zm_4001 (by decide +kernel)
theorem d_4001_6 {σ : Nat → Nat} {n0 : Nat} {bf : ab_B} : decode (ab_code (zx σ n0 bf).1 4001) 6 = .ok (.putfield 147, 3) := zd zm_4001 (by decide +kernel)
theorem d_4001_9 {σ : Nat → Nat} {n0 : Nat} {bf : ab_B} : decode (ab_code (zx σ n0 bf).1 4001) 9 = .ok (.aload_n 0, 1) := zd zm_4001 (by decide +kernel)
theorem d_4001_10 {σ : Nat → Nat} {n0 : Nat} {bf : ab_B} : decode (ab_code (zx σ n0 bf).1 4001) 10 = .ok (.aload_n 0, 1) := zd zm_4001 (by decide +kernel)
theorem d_4001_11 {σ : Nat → Nat} {n0 : Nat} {bf : ab_B} : decode (ab_code (zx σ n0 bf).1 4001) 11 = .ok (.iconst 1, 1) := zd zm_4001 (by decide +kernel)
theorem d_4001_12 {σ : Nat → Nat} {n0 : Nat} {bf : ab_B} : decode (ab_code (zx σ n0 bf).1 4001) 12 = .ok (.invokevirtual 144, 3) := zd zm_4001 (by decide +kernel)
theorem d_4001_15 {σ : Nat → Nat} {n0 : Nat} {bf : ab_B} : decode (ab_code (zx σ n0 bf).1 4001) 15 = .ok (.putfield 150, 3) := zd zm_4001 (by decide +kernel)
theorem d_4001_18 {σ : Nat → Nat} {n0 : Nat} {bf : ab_B} : decode (ab_code (zx σ n0 bf).1 4001) 18 = .ok (.aload_n 0, 1) := zd zm_4001 (by decide +kernel)
theorem d_4001_19 {σ : Nat → Nat} {n0 : Nat} {bf : ab_B} : decode (ab_code (zx σ n0 bf).1 4001) 19 = .ok (.aload_n 0, 1) := zd zm_4001 (by decide +kernel)
theorem d_4001_20 {σ : Nat → Nat} {n0 : Nat} {bf : ab_B} : decode (ab_code (zx σ n0 bf).1 4001) 20 = .ok (.iconst 2, 1) := zd zm_4001 (by decide +kernel)
theorem d_4001_21 {σ : Nat → Nat} {n0 : Nat} {bf : ab_B} : decode (ab_code (zx σ n0 bf).1 4001) 21 = .ok (.invokevirtual 144, 3) := zd zm_4001 (by decide +kernel)
theorem d_4001_24 {σ : Nat → Nat} {n0 : Nat} {bf : ab_B} : decode (ab_code (zx σ n0 bf).1 4001) 24 = .ok (.putfield 153, 3) := zd zm_4001 (by decide +kernel)
theorem d_4001_27 {σ : Nat → Nat} {n0 : Nat} {bf : ab_B} : decode (ab_code (zx σ n0 bf).1 4001) 27 = .ok (.aload_n 0, 1) := zd zm_4001 (by decide +kernel)
theorem d_4001_28 {σ : Nat → Nat} {n0 : Nat} {bf : ab_B} : decode (ab_code (zx σ n0 bf).1 4001) 28 = .ok (.aload_n 0, 1) := zd zm_4001 (by decide +kernel)
theorem d_4001_29 {σ : Nat → Nat} {n0 : Nat} {bf : ab_B} : decode (ab_code (zx σ n0 bf).1 4001) 29 = .ok (.bipush 6, 2) := zd zm_4001 (by decide +kernel)
theorem d_4001_31 {σ : Nat → Nat} {n0 : Nat} {bf : ab_B} : decode (ab_code (zx σ n0 bf).1 4001) 31 = .ok (.invokevirtual 144, 3) := zd zm_4001 (by decide +kernel)
theorem d_4001_34 {σ : Nat → Nat} {n0 : Nat} {bf : ab_B} : decode (ab_code (zx σ n0 bf).1 4001) 34 = .ok (.putfield 156, 3) := zd zm_4001 (by decide +kernel)
theorem d_4001_37 {σ : Nat → Nat} {n0 : Nat} {bf : ab_B} : decode (ab_code (zx σ n0 bf).1 4001) 37 = .ok (.aload_n 0, 1) := zd zm_4001 (by decide +kernel)
theorem d_4001_38 {σ : Nat → Nat} {n0 : Nat} {bf : ab_B} : decode (ab_code (zx σ n0 bf).1 4001) 38 = .ok (.aload_n 0, 1) := zd zm_4001 (by decide +kernel)
theorem d_4001_39 {σ : Nat → Nat} {n0 : Nat} {bf : ab_B} : decode (ab_code (zx σ n0 bf).1 4001) 39 = .ok (.bipush 12, 2) := zd zm_4001 (by decide +kernel)
theorem d_4001_41 {σ : Nat → Nat} {n0 : Nat} {bf : ab_B} : decode (ab_code (zx σ n0 bf).1 4001) 41 = .ok (.invokevirtual 144, 3) := zd zm_4001 (by decide +kernel)
theorem d_4001_44 {σ : Nat → Nat} {n0 : Nat} {bf : ab_B} : decode (ab_code (zx σ n0 bf).1 4001) 44 = .ok (.putfield 159, 3) := zd zm_4001 (by decide +kernel)
theorem d_4001_47 {σ : Nat → Nat} {n0 : Nat} {bf : ab_B} : decode (ab_code (zx σ n0 bf).1 4001) 47 = .ok (.aload_n 0, 1) := zd zm_4001 (by decide +kernel)
theorem d_4001_48 {σ : Nat → Nat} {n0 : Nat} {bf : ab_B} : decode (ab_code (zx σ n0 bf).1 4001) 48 = .ok (.aload_n 0, 1) := zd zm_4001 (by decide +kernel)
theorem d_4001_49 {σ : Nat → Nat} {n0 : Nat} {bf : ab_B} : decode (ab_code (zx σ n0 bf).1 4001) 49 = .ok (.bipush 13, 2) := zd zm_4001 (by decide +kernel)
theorem d_4001_51 {σ : Nat → Nat} {n0 : Nat} {bf : ab_B} : decode (ab_code (zx σ n0 bf).1 4001) 51 = .ok (.invokevirtual 144, 3) := zd zm_4001 (by decide +kernel)
theorem d_4001_54 {σ : Nat → Nat} {n0 : Nat} {bf : ab_B} : decode (ab_code (zx σ n0 bf).1 4001) 54 = .ok (.putfield 162, 3) := zd zm_4001 (by decide +kernel)
theorem d_4001_57 {σ : Nat → Nat} {n0 : Nat} {bf : ab_B} : decode (ab_code (zx σ n0 bf).1 4001) 57 = .ok (.bipush 36, 2) := zd zm_4001 (by decide +kernel)
theorem d_4001_59 {σ : Nat → Nat} {n0 : Nat} {bf : ab_B} : decode (ab_code (zx σ n0 bf).1 4001) 59 = .ok (.istore_n 1, 1) := zd zm_4001 (by decide +kernel)
theorem d_4001_60 {σ : Nat → Nat} {n0 : Nat} {bf : ab_B} : decode (ab_code (zx σ n0 bf).1 4001) 60 = .ok (.aload_n 0, 1) := zd zm_4001 (by decide +kernel)
theorem d_4001_61 {σ : Nat → Nat} {n0 : Nat} {bf : ab_B} : decode (ab_code (zx σ n0 bf).1 4001) 61 = .ok (.iload_n 1, 1) := zd zm_4001 (by decide +kernel)
theorem d_4001_62 {σ : Nat → Nat} {n0 : Nat} {bf : ab_B} : decode (ab_code (zx σ n0 bf).1 4001) 62 = .ok (.iconst 1, 1) := zd zm_4001 (by decide +kernel)
theorem d_4001_63 {σ : Nat → Nat} {n0 : Nat} {bf : ab_B} : decode (ab_code (zx σ n0 bf).1 4001) 63 = .ok (.aload_n 0, 1) := zd zm_4001 (by decide +kernel)
theorem d_4001_64 {σ : Nat → Nat} {n0 : Nat} {bf : ab_B} : decode (ab_code (zx σ n0 bf).1 4001) 64 = .ok (.getfield 147, 3) := zd zm_4001 (by decide +kernel)
theorem d_4001_67 {σ : Nat → Nat} {n0 : Nat} {bf : ab_B} : decode (ab_code (zx σ n0 bf).1 4001) 67 = .ok (.invokevirtual 165, 3) := zd zm_4001 (by decide +kernel)
theorem d_4001_70 {σ : Nat → Nat} {n0 : Nat} {bf : ab_B} : decode (ab_code (zx σ n0 bf).1 4001) 70 = .ok (.pop, 1) := zd zm_4001 (by decide +kernel)
theorem d_4001_71 {σ : Nat → Nat} {n0 : Nat} {bf : ab_B} : decode (ab_code (zx σ n0 bf).1 4001) 71 = .ok (.aload_n 0, 1) := zd zm_4001 (by decide +kernel)
theorem d_4001_72 {σ : Nat → Nat} {n0 : Nat} {bf : ab_B} : decode (ab_code (zx σ n0 bf).1 4001) 72 = .ok (.iload_n 1, 1) := zd zm_4001 (by decide +kernel)
theorem d_4001_73 {σ : Nat → Nat} {n0 : Nat} {bf : ab_B} : decode (ab_code (zx σ n0 bf).1 4001) 73 = .ok (.iconst 1, 1) := zd zm_4001 (by decide +kernel)
theorem d_4001_74 {σ : Nat → Nat} {n0 : Nat} {bf : ab_B} : decode (ab_code (zx σ n0 bf).1 4001) 74 = .ok (.iadd, 1) := zd zm_4001 (by decide +kernel)
theorem d_4001_75 {σ : Nat → Nat} {n0 : Nat} {bf : ab_B} : decode (ab_code (zx σ n0 bf).1 4001) 75 = .ok (.iconst 1, 1) := zd zm_4001 (by decide +kernel)
theorem d_4001_76 {σ : Nat → Nat} {n0 : Nat} {bf : ab_B} : decode (ab_code (zx σ n0 bf).1 4001) 76 = .ok (.aload_n 0, 1) := zd zm_4001 (by decide +kernel)
theorem d_4001_77 {σ : Nat → Nat} {n0 : Nat} {bf : ab_B} : decode (ab_code (zx σ n0 bf).1 4001) 77 = .ok (.getfield 150, 3) := zd zm_4001 (by decide +kernel)
theorem d_4001_80 {σ : Nat → Nat} {n0 : Nat} {bf : ab_B} : decode (ab_code (zx σ n0 bf).1 4001) 80 = .ok (.invokevirtual 165, 3) := zd zm_4001 (by decide +kernel)
theorem d_4001_83 {σ : Nat → Nat} {n0 : Nat} {bf : ab_B} : decode (ab_code (zx σ n0 bf).1 4001) 83 = .ok (.pop, 1) := zd zm_4001 (by decide +kernel)
theorem d_4001_84 {σ : Nat → Nat} {n0 : Nat} {bf : ab_B} : decode (ab_code (zx σ n0 bf).1 4001) 84 = .ok (.aload_n 0, 1) := zd zm_4001 (by decide +kernel)
theorem d_4001_85 {σ : Nat → Nat} {n0 : Nat} {bf : ab_B} : decode (ab_code (zx σ n0 bf).1 4001) 85 = .ok (.iload_n 1, 1) := zd zm_4001 (by decide +kernel)
theorem d_4001_86 {σ : Nat → Nat} {n0 : Nat} {bf : ab_B} : decode (ab_code (zx σ n0 bf).1 4001) 86 = .ok (.iconst 2, 1) := zd zm_4001 (by decide +kernel)
theorem d_4001_87 {σ : Nat → Nat} {n0 : Nat} {bf : ab_B} : decode (ab_code (zx σ n0 bf).1 4001) 87 = .ok (.iadd, 1) := zd zm_4001 (by decide +kernel)
theorem d_4001_88 {σ : Nat → Nat} {n0 : Nat} {bf : ab_B} : decode (ab_code (zx σ n0 bf).1 4001) 88 = .ok (.iconst 1, 1) := zd zm_4001 (by decide +kernel)
theorem d_4001_89 {σ : Nat → Nat} {n0 : Nat} {bf : ab_B} : decode (ab_code (zx σ n0 bf).1 4001) 89 = .ok (.aload_n 0, 1) := zd zm_4001 (by decide +kernel)
theorem d_4001_90 {σ : Nat → Nat} {n0 : Nat} {bf : ab_B} : decode (ab_code (zx σ n0 bf).1 4001) 90 = .ok (.getfield 153, 3) := zd zm_4001 (by decide +kernel)
theorem d_4001_93 {σ : Nat → Nat} {n0 : Nat} {bf : ab_B} : decode (ab_code (zx σ n0 bf).1 4001) 93 = .ok (.invokevirtual 165, 3) := zd zm_4001 (by decide +kernel)
theorem d_4001_96 {σ : Nat → Nat} {n0 : Nat} {bf : ab_B} : decode (ab_code (zx σ n0 bf).1 4001) 96 = .ok (.pop, 1) := zd zm_4001 (by decide +kernel)
theorem d_4001_97 {σ : Nat → Nat} {n0 : Nat} {bf : ab_B} : decode (ab_code (zx σ n0 bf).1 4001) 97 = .ok (.aload_n 0, 1) := zd zm_4001 (by decide +kernel)
theorem d_4001_98 {σ : Nat → Nat} {n0 : Nat} {bf : ab_B} : decode (ab_code (zx σ n0 bf).1 4001) 98 = .ok (.iload_n 1, 1) := zd zm_4001 (by decide +kernel)
theorem d_4001_99 {σ : Nat → Nat} {n0 : Nat} {bf : ab_B} : decode (ab_code (zx σ n0 bf).1 4001) 99 = .ok (.iconst 3, 1) := zd zm_4001 (by decide +kernel)
theorem d_4001_100 {σ : Nat → Nat} {n0 : Nat} {bf : ab_B} : decode (ab_code (zx σ n0 bf).1 4001) 100 = .ok (.iadd, 1) := zd zm_4001 (by decide +kernel)
theorem d_4001_101 {σ : Nat → Nat} {n0 : Nat} {bf : ab_B} : decode (ab_code (zx σ n0 bf).1 4001) 101 = .ok (.iconst 0, 1) := zd zm_4001 (by decide +kernel)
theorem d_4001_102 {σ : Nat → Nat} {n0 : Nat} {bf : ab_B} : decode (ab_code (zx σ n0 bf).1 4001) 102 = .ok (.aload_n 0, 1) := zd zm_4001 (by decide +kernel)
theorem d_4001_103 {σ : Nat → Nat} {n0 : Nat} {bf : ab_B} : decode (ab_code (zx σ n0 bf).1 4001) 103 = .ok (.getfield 150, 3) := zd zm_4001 (by decide +kernel)
theorem d_4001_106 {σ : Nat → Nat} {n0 : Nat} {bf : ab_B} : decode (ab_code (zx σ n0 bf).1 4001) 106 = .ok (.invokevirtual 165, 3) := zd zm_4001 (by decide +kernel)
theorem d_4001_109 {σ : Nat → Nat} {n0 : Nat} {bf : ab_B} : decode (ab_code (zx σ n0 bf).1 4001) 109 = .ok (.lconst 1, 1) := zd zm_4001 (by decide +kernel)
theorem d_4001_110 {σ : Nat → Nat} {n0 : Nat} {bf : ab_B} : decode (ab_code (zx σ n0 bf).1 4001) 110 = .ok (.putfield 168, 3) := zd zm_4001 (by decide +kernel)
theorem d_4001_113 {σ : Nat → Nat} {n0 : Nat} {bf : ab_B} : decode (ab_code (zx σ n0 bf).1 4001) 113 = .ok (.aload_n 0, 1) := zd zm_4001 (by decide +kernel)
theorem d_4001_114 {σ : Nat → Nat} {n0 : Nat} {bf : ab_B} : decode (ab_code (zx σ n0 bf).1 4001) 114 = .ok (.iload_n 1, 1) := zd zm_4001 (by decide +kernel)
theorem d_4001_115 {σ : Nat → Nat} {n0 : Nat} {bf : ab_B} : decode (ab_code (zx σ n0 bf).1 4001) 115 = .ok (.iconst 4, 1) := zd zm_4001 (by decide +kernel)
theorem d_4001_116 {σ : Nat → Nat} {n0 : Nat} {bf : ab_B} : decode (ab_code (zx σ n0 bf).1 4001) 116 = .ok (.iadd, 1) := zd zm_4001 (by decide +kernel)
theorem d_4001_117 {σ : Nat → Nat} {n0 : Nat} {bf : ab_B} : decode (ab_code (zx σ n0 bf).1 4001) 117 = .ok (.iconst 0, 1) := zd zm_4001 (by decide +kernel)
theorem d_4001_118 {σ : Nat → Nat} {n0 : Nat} {bf : ab_B} : decode (ab_code (zx σ n0 bf).1 4001) 118 = .ok (.aload_n 0, 1) := zd zm_4001 (by decide +kernel)
theorem d_4001_119 {σ : Nat → Nat} {n0 : Nat} {bf : ab_B} : decode (ab_code (zx σ n0 bf).1 4001) 119 = .ok (.getfield 150, 3) := zd zm_4001 (by decide +kernel)
theorem d_4001_122 {σ : Nat → Nat} {n0 : Nat} {bf : ab_B} : decode (ab_code (zx σ n0 bf).1 4001) 122 = .ok (.invokevirtual 165, 3) := zd zm_4001 (by decide +kernel)
theorem d_4001_125 {σ : Nat → Nat} {n0 : Nat} {bf : ab_B} : decode (ab_code (zx σ n0 bf).1 4001) 125 = .ok (.lconst 0, 1) := zd zm_4001 (by decide +kernel)
theorem d_4001_126 {σ : Nat → Nat} {n0 : Nat} {bf : ab_B} : decode (ab_code (zx σ n0 bf).1 4001) 126 = .ok (.putfield 168, 3) := zd zm_4001 (by decide +kernel)
theorem d_4001_129 {σ : Nat → Nat} {n0 : Nat} {bf : ab_B} : decode (ab_code (zx σ n0 bf).1 4001) 129 = .ok (.aload_n 0, 1) := zd zm_4001 (by decide +kernel)
theorem d_4001_130 {σ : Nat → Nat} {n0 : Nat} {bf : ab_B} : decode (ab_code (zx σ n0 bf).1 4001) 130 = .ok (.iload_n 1, 1) := zd zm_4001 (by decide +kernel)
theorem d_4001_131 {σ : Nat → Nat} {n0 : Nat} {bf : ab_B} : decode (ab_code (zx σ n0 bf).1 4001) 131 = .ok (.iconst 5, 1) := zd zm_4001 (by decide +kernel)
theorem d_4001_132 {σ : Nat → Nat} {n0 : Nat} {bf : ab_B} : decode (ab_code (zx σ n0 bf).1 4001) 132 = .ok (.iadd, 1) := zd zm_4001 (by decide +kernel)
theorem d_4001_133 {σ : Nat → Nat} {n0 : Nat} {bf : ab_B} : decode (ab_code (zx σ n0 bf).1 4001) 133 = .ok (.iconst 0, 1) := zd zm_4001 (by decide +kernel)
theorem d_4001_134 {σ : Nat → Nat} {n0 : Nat} {bf : ab_B} : decode (ab_code (zx σ n0 bf).1 4001) 134 = .ok (.aload_n 0, 1) := zd zm_4001 (by decide +kernel)
theorem d_4001_135 {σ : Nat → Nat} {n0 : Nat} {bf : ab_B} : decode (ab_code (zx σ n0 bf).1 4001) 135 = .ok (.getfield 147, 3) := zd zm_4001 (by decide +kernel)
theorem d_4001_138 {σ : Nat → Nat} {n0 : Nat} {bf : ab_B} : decode (ab_code (zx σ n0 bf).1 4001) 138 = .ok (.invokevirtual 165, 3) := zd zm_4001 (by decide +kernel)
theorem d_4001_141 {σ : Nat → Nat} {n0 : Nat} {bf : ab_B} : decode (ab_code (zx σ n0 bf).1 4001) 141 = .ok (.ldc2_w 172, 3) := zd zm_4001 (by decide +kernel)
theorem d_4001_144 {σ : Nat → Nat} {n0 : Nat} {bf : ab_B} : decode (ab_code (zx σ n0 bf).1 4001) 144 = .ok (.putfield 168, 3) := zd zm_4001 (by decide +kernel)
theorem d_4001_147 {σ : Nat → Nat} {n0 : Nat} {bf : ab_B} : decode (ab_code (zx σ n0 bf).1 4001) 147 = .ok (.bipush 6, 2) := zd zm_4001 (by decide +kernel)
theorem d_4001_149 {σ : Nat → Nat} {n0 : Nat} {bf : ab_B} : decode (ab_code (zx σ n0 bf).1 4001) 149 = .ok (.istore_n 2, 1) := zd zm_4001 (by decide +kernel)
theorem d_4001_150 {σ : Nat → Nat} {n0 : Nat} {bf : ab_B} : decode (ab_code (zx σ n0 bf).1 4001) 150 = .ok (.iload_n 2, 1) := zd zm_4001 (by decide +kernel)
theorem d_4001_151 {σ : Nat → Nat} {n0 : Nat} {bf : ab_B} : decode (ab_code (zx σ n0 bf).1 4001) 151 = .ok (.bipush 23, 2) := zd zm_4001 (by decide +kernel)
theorem d_4001_153 {σ : Nat → Nat} {n0 : Nat} {bf : ab_B} : decode (ab_code (zx σ n0 bf).1 4001) 153 = .ok (.if_icmp .gt 23, 3) := zd zm_4001 (by decide +kernel)
theorem d_4001_156 {σ : Nat → Nat} {n0 : Nat} {bf : ab_B} : decode (ab_code (zx σ n0 bf).1 4001) 156 = .ok (.aload_n 0, 1) := zd zm_4001 (by decide +kernel)
theorem d_4001_157 {σ : Nat → Nat} {n0 : Nat} {bf : ab_B} : decode (ab_code (zx σ n0 bf).1 4001) 157 = .ok (.iload_n 1, 1) := zd zm_4001 (by decide +kernel)
theorem d_4001_158 {σ : Nat → Nat} {n0 : Nat} {bf : ab_B} : decode (ab_code (zx σ n0 bf).1 4001) 158 = .ok (.iload_n 2, 1) := zd zm_4001 (by decide +kernel)
theorem d_4001_159 {σ : Nat → Nat} {n0 : Nat} {bf : ab_B} : decode (ab_code (zx σ n0 bf).1 4001) 159 = .ok (.iadd, 1) := zd zm_4001 (by decide +kernel)
theorem d_4001_160 {σ : Nat → Nat} {n0 : Nat} {bf : ab_B} : decode (ab_code (zx σ n0 bf).1 4001) 160 = .ok (.iconst 4, 1) := zd zm_4001 (by decide +kernel)
theorem d_4001_161 {σ : Nat → Nat} {n0 : Nat} {bf : ab_B} : decode (ab_code (zx σ n0 bf).1 4001) 161 = .ok (.aconst_null, 1) := zd zm_4001 (by decide +kernel)
theorem d_4001_162 {σ : Nat → Nat} {n0 : Nat} {bf : ab_B} : decode (ab_code (zx σ n0 bf).1 4001) 162 = .ok (.invokevirtual 165, 3) := zd zm_4001 (by decide +kernel)
theorem d_4001_165 {σ : Nat → Nat} {n0 : Nat} {bf : ab_B} : decode (ab_code (zx σ n0 bf).1 4001) 165 = .ok (.iload_n 2, 1) := zd zm_4001 (by decide +kernel)
theorem d_4001_166 {σ : Nat → Nat} {n0 : Nat} {bf : ab_B} : decode (ab_code (zx σ n0 bf).1 4001) 166 = .ok (.i2l, 1) := zd zm_4001 (by decide +kernel)
theorem d_4001_167 {σ : Nat → Nat} {n0 : Nat} {bf : ab_B} : decode (ab_code (zx σ n0 bf).1 4001) 167 = .ok (.putfield 168, 3) := zd zm_4001 (by decide +kernel)
theorem d_4001_170 {σ : Nat → Nat} {n0 : Nat} {bf : ab_B} : decode (ab_code (zx σ n0 bf).1 4001) 170 = .ok (.iinc 2 1, 3) := zd zm_4001 (by decide +kernel)
theorem d_4001_173 {σ : Nat → Nat} {n0 : Nat} {bf : ab_B} : decode (ab_code (zx σ n0 bf).1 4001) 173 = .ok (.goto (-23), 3) := zd zm_4001 (by decide +kernel)
theorem d_4001_176 {σ : Nat → Nat} {n0 : Nat} {bf : ab_B} : decode (ab_code (zx σ n0 bf).1 4001) 176 = .ok (.return_, 1) := zd zm_4001 (by decide +kernel)
def w_X5_addKnown_129 (X : zs_X) (d : Nat) (p0 : Nat) (p1 : Int32) (S : zs_T) (Q : zs_Q) : Prop :=
  (zs_K S p0 = some (.inl 4) ∧ zs_C X d 4003 [.ref p0, .int (p1 + (5 : Int32)), .int (0 : Int32), va_rf (zs_R S 4002 p0)] S (zs_kR (fun v3 S2 => (∃ b4, v3 = some b4 ∧ zs_K S2 b4 = some (.inl 7) ∧ ab_n0 X.1 ≤ b4 ∧ ∀ S8, S8 = zs_sJ S2 7003 b4 (2147483647 : Int64) → zs_U X d 4001 150 [(0, .ref p0), (1, .int p1), (2, .int (6 : Int32))] [] S8 Q)) Q))
theorem u_X5_addKnown_129 {σ : Nat → Nat} {n0 : Nat} {bf : ab_B} {d : Nat} {p0 : Nat} {p1 : Int32} {S : zs_T} {Q : zs_Q} (hB : zt_B bf) (h : w_X5_addKnown_129 (zx σ n0 bf) d p0 p1 S Q) : zs_U (zx σ n0 bf) d 4001 129 [(0, .ref p0), (1, .int p1)] [] S Q := by
  unfold w_X5_addKnown_129 at h
  refine zu_aload_n d_4001_129 rfl (zs_ra _) ?_
  refine zu_iload_n d_4001_130 rfl ?_
  refine zu_iconst d_4001_131 zi_5 ?_
  refine zu_stk d_4001_132 rfl rfl ?_
  refine zu_iconst d_4001_133 zi_0 ?_
  refine zu_aload_n d_4001_134 rfl (zs_ra _) ?_
  obtain ⟨k1, h⟩ := h
  refine zg_4_147 rfl d_4001_135 k1 ?_
  refine zc_4_165 (x0 := (p1 + (5 : Int32))) (x1 := (0 : Int32)) (x2 := (zs_R S 4002 p0)) hB rfl k1 d_4001_138 (Nat.le_of_ble_eq_true rfl) h (fun v3 S2 h => ?_)
  refine zl2_4_172 rfl d_4001_141 ?_
  obtain ⟨b4, e5, h⟩ := h
  refine zs_stk1 (zs_rfe e5) ?_
  obtain ⟨k6, h⟩ := h
  obtain ⟨k7, h⟩ := h
  refine zp_4_168 (v := (2147483647 : Int64)) rfl d_4001_144 k6 k7 ?_
  generalize e9 : zs_sJ S2 7003 b4 (2147483647 : Int64) = S8
  have h := h S8 e9.symm
  have K10 : ∀ b, zs_K S8 b = zs_K S2 b := zs_Kt e9 (zs_KsJ _ _ _ _) (fun _ => rfl)
  refine zu_bipush d_4001_147 zj_6 ?_
  refine zu_istore_n d_4001_149 (zs_lt zq_4001 rfl) ?_
  exact h.weak ⟨rfl, rfl, rfl, trivial⟩
def w_X5_addKnown_97 (X : zs_X) (d : Nat) (p0 : Nat) (p1 : Int32) (S : zs_T) (Q : zs_Q) : Prop :=
  (zs_K S p0 = some (.inl 4) ∧ zs_C X d 4003 [.ref p0, .int (p1 + (3 : Int32)), .int (0 : Int32), va_rf (zs_R S 4003 p0)] S (zs_kR (fun v3 S2 => (∃ b4, v3 = some b4 ∧ zs_K S2 b4 = some (.inl 7) ∧ ab_n0 X.1 ≤ b4 ∧ ∀ S8, S8 = zs_sJ S2 7003 b4 (1 : Int64) → zs_K S2 p0 = some (.inl 4) ∧ zs_C X d 4003 [.ref p0, .int (p1 + (4 : Int32)), .int (0 : Int32), va_rf (zs_R S8 4003 p0)] S8 (zs_kR (fun v13 S12 => (∃ b14, v13 = some b14 ∧ zs_K S12 b14 = some (.inl 7) ∧ ab_n0 X.1 ≤ b14 ∧ ∀ S18, S18 = zs_sJ S12 7003 b14 (0 : Int64) → w_X5_addKnown_129 X d p0 p1 S18 Q)) Q))) Q))
theorem u_X5_addKnown_97 {σ : Nat → Nat} {n0 : Nat} {bf : ab_B} {d : Nat} {p0 : Nat} {p1 : Int32} {S : zs_T} {Q : zs_Q} (hB : zt_B bf) (h : w_X5_addKnown_97 (zx σ n0 bf) d p0 p1 S Q) : zs_U (zx σ n0 bf) d 4001 97 [(0, .ref p0), (1, .int p1)] [] S Q := by
  unfold w_X5_addKnown_97 at h
  refine zu_aload_n d_4001_97 rfl (zs_ra _) ?_
  refine zu_iload_n d_4001_98 rfl ?_
  refine zu_iconst d_4001_99 zi_3 ?_
  refine zu_stk d_4001_100 rfl rfl ?_
  refine zu_iconst d_4001_101 zi_0 ?_
  refine zu_aload_n d_4001_102 rfl (zs_ra _) ?_
  obtain ⟨k1, h⟩ := h
  refine zg_4_150 rfl d_4001_103 k1 ?_
  refine zc_4_165 (x0 := (p1 + (3 : Int32))) (x1 := (0 : Int32)) (x2 := (zs_R S 4003 p0)) hB rfl k1 d_4001_106 (Nat.le_of_ble_eq_true rfl) h (fun v3 S2 h => ?_)
  refine zu_lconst (v := 1) d_4001_109 rfl ?_
  obtain ⟨b4, e5, h⟩ := h
  refine zs_stk1 (zs_rfe e5) ?_
  obtain ⟨k6, h⟩ := h
  obtain ⟨k7, h⟩ := h
  refine zp_4_168 (v := (1 : Int64)) rfl d_4001_110 k6 k7 ?_
  generalize e9 : zs_sJ S2 7003 b4 (1 : Int64) = S8
  have h := h S8 e9.symm
  have K10 : ∀ b, zs_K S8 b = zs_K S2 b := zs_Kt e9 (zs_KsJ _ _ _ _) (fun _ => rfl)
  refine zu_aload_n d_4001_113 rfl (zs_ra _) ?_
  refine zu_iload_n d_4001_114 rfl ?_
  refine zu_iconst d_4001_115 zi_4 ?_
  refine zu_stk d_4001_116 rfl rfl ?_
  refine zu_iconst d_4001_117 zi_0 ?_
  refine zu_aload_n d_4001_118 rfl (zs_ra _) ?_
  obtain ⟨k11, h⟩ := h
  refine zg_4_150 rfl d_4001_119 ((K10 _).trans k11) ?_
  refine zc_4_165 (x0 := (p1 + (4 : Int32))) (x1 := (0 : Int32)) (x2 := (zs_R S8 4003 p0)) hB rfl ((K10 _).trans k11) d_4001_122 (Nat.le_of_ble_eq_true rfl) h (fun v13 S12 h => ?_)
  refine zu_lconst (v := 0) d_4001_125 rfl ?_
  obtain ⟨b14, e15, h⟩ := h
  refine zs_stk1 (zs_rfe e15) ?_
  obtain ⟨k16, h⟩ := h
  obtain ⟨k17, h⟩ := h
  refine zp_4_168 (v := (0 : Int64)) rfl d_4001_126 k16 k17 ?_
  generalize e19 : zs_sJ S12 7003 b14 (0 : Int64) = S18
  have h := h S18 e19.symm
  have K20 : ∀ b, zs_K S18 b = zs_K S12 b := zs_Kt e19 (zs_KsJ _ _ _ _) (fun _ => rfl)
  exact (u_X5_addKnown_129 hB h).weak ⟨rfl, rfl, trivial⟩
def w_X5_addKnown_71 (X : zs_X) (d : Nat) (p0 : Nat) (p1 : Int32) (S : zs_T) (Q : zs_Q) : Prop :=
  (zs_K S p0 = some (.inl 4) ∧ zs_C X d 4003 [.ref p0, .int (p1 + (1 : Int32)), .int (1 : Int32), va_rf (zs_R S 4003 p0)] S (zs_kR (fun v3 S2 => (zs_K S2 p0 = some (.inl 4) ∧ zs_C X d 4003 [.ref p0, .int (p1 + (2 : Int32)), .int (1 : Int32), va_rf (zs_R S2 4004 p0)] S2 (zs_kR (fun v6 S5 => (w_X5_addKnown_97 X d p0 p1 S5 Q)) Q))) Q))
theorem u_X5_addKnown_71 {σ : Nat → Nat} {n0 : Nat} {bf : ab_B} {d : Nat} {p0 : Nat} {p1 : Int32} {S : zs_T} {Q : zs_Q} (hB : zt_B bf) (h : w_X5_addKnown_71 (zx σ n0 bf) d p0 p1 S Q) : zs_U (zx σ n0 bf) d 4001 71 [(0, .ref p0), (1, .int p1)] [] S Q := by
  unfold w_X5_addKnown_71 at h
  refine zu_aload_n d_4001_71 rfl (zs_ra _) ?_
  refine zu_iload_n d_4001_72 rfl ?_
  refine zu_iconst d_4001_73 zi_1 ?_
  refine zu_stk d_4001_74 rfl rfl ?_
  refine zu_iconst d_4001_75 zi_1 ?_
  refine zu_aload_n d_4001_76 rfl (zs_ra _) ?_
  obtain ⟨k1, h⟩ := h
  refine zg_4_150 rfl d_4001_77 k1 ?_
  refine zc_4_165 (x0 := (p1 + (1 : Int32))) (x1 := (1 : Int32)) (x2 := (zs_R S 4003 p0)) hB rfl k1 d_4001_80 (Nat.le_of_ble_eq_true rfl) h (fun v3 S2 h => ?_)
  refine zu_pop d_4001_83 (zs_cat _) ?_
  refine zu_aload_n d_4001_84 rfl (zs_ra _) ?_
  refine zu_iload_n d_4001_85 rfl ?_
  refine zu_iconst d_4001_86 zi_2 ?_
  refine zu_stk d_4001_87 rfl rfl ?_
  refine zu_iconst d_4001_88 zi_1 ?_
  refine zu_aload_n d_4001_89 rfl (zs_ra _) ?_
  obtain ⟨k4, h⟩ := h
  refine zg_4_153 rfl d_4001_90 k4 ?_
  refine zc_4_165 (x0 := (p1 + (2 : Int32))) (x1 := (1 : Int32)) (x2 := (zs_R S2 4004 p0)) hB rfl k4 d_4001_93 (Nat.le_of_ble_eq_true rfl) h (fun v6 S5 h => ?_)
  refine zu_pop d_4001_96 (zs_cat _) ?_
  exact (u_X5_addKnown_97 hB h).weak ⟨rfl, rfl, trivial⟩
def w_X5_addKnown_37 (X : zs_X) (d : Nat) (p0 : Nat) (S : zs_T) (Q : zs_Q) : Prop :=
  (zs_K S p0 = some (.inl 4) ∧ zs_C X d 4002 [.ref p0, .int (12 : Int32)] S (zs_kR (fun v3 S2 => (zs_K S2 p0 = some (.inl 4) ∧ ab_n0 X.1 ≤ p0 ∧ ∀ S6, S6 = zs_sR S2 4006 p0 v3 → zs_C X d 4002 [.ref p0, .int (13 : Int32)] S6 (zs_kR (fun v10 S9 => (zs_K S9 p0 = some (.inl 4) ∧ ∀ S12, S12 = zs_sR S9 4007 p0 v10 → zs_C X d 4003 [.ref p0, .int (36 : Int32), .int (1 : Int32), va_rf (zs_R S12 4002 p0)] S12 (zs_kR (fun v16 S15 => (w_X5_addKnown_71 X d p0 (36 : Int32) S15 Q)) Q))) Q))) Q))
theorem u_X5_addKnown_37 {σ : Nat → Nat} {n0 : Nat} {bf : ab_B} {d : Nat} {p0 : Nat} {S : zs_T} {Q : zs_Q} (hB : zt_B bf) (h : w_X5_addKnown_37 (zx σ n0 bf) d p0 S Q) : zs_U (zx σ n0 bf) d 4001 37 [(0, .ref p0)] [] S Q := by
  unfold w_X5_addKnown_37 at h
  refine zu_aload_n d_4001_37 rfl (zs_ra _) ?_
  refine zu_aload_n d_4001_38 rfl (zs_ra _) ?_
  refine zu_bipush d_4001_39 zj_12 ?_
  obtain ⟨k1, h⟩ := h
  refine zc_4_144 (x0 := (12 : Int32)) hB rfl k1 d_4001_41 (Nat.le_of_ble_eq_true rfl) h (fun v3 S2 h => ?_)
  obtain ⟨k4, h⟩ := h
  obtain ⟨k5, h⟩ := h
  refine zp_4_159 (v := v3) rfl d_4001_44 k4 k5 ?_
  generalize e7 : zs_sR S2 4006 p0 v3 = S6
  have h := h S6 e7.symm
  have K8 : ∀ b, zs_K S6 b = zs_K S2 b := zs_Kt e7 (zs_KsR _ _ _ _) (fun _ => rfl)
  refine zu_aload_n d_4001_47 rfl (zs_ra _) ?_
  refine zu_aload_n d_4001_48 rfl (zs_ra _) ?_
  refine zu_bipush d_4001_49 zj_13 ?_
  refine zc_4_144 (x0 := (13 : Int32)) hB rfl ((K8 _).trans k4) d_4001_51 (Nat.le_of_ble_eq_true rfl) h (fun v10 S9 h => ?_)
  obtain ⟨k11, h⟩ := h
  refine zp_4_162 (v := v10) rfl d_4001_54 k11 k5 ?_
  generalize e13 : zs_sR S9 4007 p0 v10 = S12
  have h := h S12 e13.symm
  have K14 : ∀ b, zs_K S12 b = zs_K S9 b := zs_Kt e13 (zs_KsR _ _ _ _) (fun _ => rfl)
  refine zu_bipush d_4001_57 zj_36 ?_
  refine zu_istore_n d_4001_59 (zs_lt zq_4001 rfl) ?_
  refine zu_aload_n d_4001_60 rfl (zs_ra _) ?_
  refine zu_iload_n d_4001_61 rfl ?_
  refine zu_iconst d_4001_62 zi_1 ?_
  refine zu_aload_n d_4001_63 rfl (zs_ra _) ?_
  refine zg_4_147 rfl d_4001_64 ((K14 _).trans k11) ?_
  refine zc_4_165 (x0 := (36 : Int32)) (x1 := (1 : Int32)) (x2 := (zs_R S12 4002 p0)) hB rfl ((K14 _).trans k11) d_4001_67 (Nat.le_of_ble_eq_true rfl) h (fun v16 S15 h => ?_)
  refine zu_pop d_4001_70 (zs_cat _) ?_
  exact (u_X5_addKnown_71 hB h).weak ⟨rfl, rfl, trivial⟩
def w_X5_addKnown_150 (X : zs_X) (d : Nat) (p0 : Nat) (p1 : Int32) (p2 : Int32) (S : zs_T) (Q : zs_Q) : Prop :=
  ((((23 : Int32) < p2 → (Q (.returned none) S)) ∧ (¬ ((23 : Int32) < p2) → (zs_K S p0 = some (.inl 4) ∧ zs_C X d 4003 [.ref p0, .int (p1 + p2), .int (4 : Int32), va_rf none] S (zs_kR (fun v4 S3 => (∃ b5, v4 = some b5 ∧ zs_K S3 b5 = some (.inl 7) ∧ ab_n0 X.1 ≤ b5 ∧ ∀ S9, S9 = zs_sJ S3 7003 b5 ((p2).toInt64) → zs_U X d 4001 150 [(0, .ref p0), (1, .int p1), (2, .int (p2 + (1 : Int32)))] [] S9 Q)) Q)))))
theorem u_X5_addKnown_150 {σ : Nat → Nat} {n0 : Nat} {bf : ab_B} {d : Nat} {p0 : Nat} {p1 : Int32} {p2 : Int32} {S : zs_T} {Q : zs_Q} (hB : zt_B bf) (h : w_X5_addKnown_150 (zx σ n0 bf) d p0 p1 p2 S Q) : zs_U (zx σ n0 bf) d 4001 150 [(0, .ref p0), (1, .int p1), (2, .int p2)] [] S Q := by
  unfold w_X5_addKnown_150 at h
  refine zu_iload_n d_4001_150 rfl ?_
  refine zu_bipush d_4001_151 zj_23 ?_
  refine zu_cmpgt (t := 176) d_4001_153 rfl (fun c1 => ?_) (fun c1 => ?_)
  · have h := h.1 c1
    exact zu_vret d_4001_176 zr_4001 h
  · have h := h.2 c1
    refine zu_aload_n d_4001_156 rfl (zs_ra _) ?_
    refine zu_iload_n d_4001_157 rfl ?_
    refine zu_iload_n d_4001_158 rfl ?_
    refine zu_stk d_4001_159 rfl rfl ?_
    refine zu_iconst d_4001_160 zi_4 ?_
    refine zu_stk d_4001_161 rfl rfl ?_
    obtain ⟨k2, h⟩ := h
    refine zc_4_165 (x0 := (p1 + p2)) (x1 := (4 : Int32)) (x2 := none) hB rfl k2 d_4001_162 (Nat.le_of_ble_eq_true rfl) h (fun v4 S3 h => ?_)
    refine zu_iload_n d_4001_165 rfl ?_
    refine zu_stk d_4001_166 rfl rfl ?_
    obtain ⟨b5, e6, h⟩ := h
    refine zs_stk1 (zs_rfe e6) ?_
    obtain ⟨k7, h⟩ := h
    obtain ⟨k8, h⟩ := h
    refine zp_4_168 (v := ((p2).toInt64)) rfl d_4001_167 k7 k8 ?_
    generalize e10 : zs_sJ S3 7003 b5 ((p2).toInt64) = S9
    have h := h S9 e10.symm
    have K11 : ∀ b, zs_K S9 b = zs_K S3 b := zs_Kt e10 (zs_KsJ _ _ _ _) (fun _ => rfl)
    refine zu_iinc d_4001_170 rfl zi_1 (zs_lt zq_4001 rfl) ?_
    refine zu_goto (t := 150) d_4001_173 rfl ?_
    exact h.weak ⟨rfl, rfl, rfl, trivial⟩
def w_X5_addKnown (X : zs_X) (d : Nat) (p0 : Nat) (S : zs_T) (Q : zs_Q) : Prop :=
  (zs_K S p0 = some (.inl 4) ∧ zs_C X d 4002 [.ref p0, .int (0 : Int32)] S (zs_kR (fun v3 S2 => (zs_K S2 p0 = some (.inl 4) ∧ ab_n0 X.1 ≤ p0 ∧ ∀ S6, S6 = zs_sR S2 4002 p0 v3 → zs_C X d 4002 [.ref p0, .int (1 : Int32)] S6 (zs_kR (fun v10 S9 => (zs_K S9 p0 = some (.inl 4) ∧ ∀ S12, S12 = zs_sR S9 4003 p0 v10 → zs_C X d 4002 [.ref p0, .int (2 : Int32)] S12 (zs_kR (fun v16 S15 => (zs_K S15 p0 = some (.inl 4) ∧ ∀ S18, S18 = zs_sR S15 4004 p0 v16 → zs_C X d 4002 [.ref p0, .int (6 : Int32)] S18 (zs_kR (fun v22 S21 => (zs_K S21 p0 = some (.inl 4) ∧ ∀ S24, S24 = zs_sR S21 4005 p0 v22 → w_X5_addKnown_37 X d p0 S24 Q)) Q))) Q))) Q))) Q))
theorem u_X5_addKnown {σ : Nat → Nat} {n0 : Nat} {bf : ab_B} {d : Nat} {p0 : Nat} {S : zs_T} {Q : zs_Q} (hB : zt_B bf) (hd : 1 ≤ d) (h : w_X5_addKnown (zx σ n0 bf) (d - 1) p0 S Q) : zs_C (zx σ n0 bf) d 4001 [.ref p0] S Q := by
  have hL : lv_args 0 [.ref p0] = [(0, .ref p0)] := rfl
  refine zs_C.of1 (hB.2 4001 (by decide) (by decide)) hd (by rw [hL]; exact zs_sub_self _ (by exact ⟨rfl, trivial⟩)) ?_
  rw [hL]
  clear hL
  unfold w_X5_addKnown at h
  refine zu_aload_n d_4001_0 rfl (zs_ra _) ?_
  refine zu_aload_n d_4001_1 rfl (zs_ra _) ?_
  refine zu_iconst d_4001_2 zi_0 ?_
  obtain ⟨k1, h⟩ := h
  refine zc_4_144 (x0 := (0 : Int32)) hB rfl k1 d_4001_3 (Nat.le_of_ble_eq_true rfl) h (fun v3 S2 h => ?_)
  obtain ⟨k4, h⟩ := h
  obtain ⟨k5, h⟩ := h
  refine zp_4_147 (v := v3) rfl d_4001_6 k4 k5 ?_
  generalize e7 : zs_sR S2 4002 p0 v3 = S6
  have h := h S6 e7.symm
  have K8 : ∀ b, zs_K S6 b = zs_K S2 b := zs_Kt e7 (zs_KsR _ _ _ _) (fun _ => rfl)
  refine zu_aload_n d_4001_9 rfl (zs_ra _) ?_
  refine zu_aload_n d_4001_10 rfl (zs_ra _) ?_
  refine zu_iconst d_4001_11 zi_1 ?_
  refine zc_4_144 (x0 := (1 : Int32)) hB rfl ((K8 _).trans k4) d_4001_12 (Nat.le_of_ble_eq_true rfl) h (fun v10 S9 h => ?_)
  obtain ⟨k11, h⟩ := h
  refine zp_4_150 (v := v10) rfl d_4001_15 k11 k5 ?_
  generalize e13 : zs_sR S9 4003 p0 v10 = S12
  have h := h S12 e13.symm
  have K14 : ∀ b, zs_K S12 b = zs_K S9 b := zs_Kt e13 (zs_KsR _ _ _ _) (fun _ => rfl)
  refine zu_aload_n d_4001_18 rfl (zs_ra _) ?_
  refine zu_aload_n d_4001_19 rfl (zs_ra _) ?_
  refine zu_iconst d_4001_20 zi_2 ?_
  refine zc_4_144 (x0 := (2 : Int32)) hB rfl ((K14 _).trans k11) d_4001_21 (Nat.le_of_ble_eq_true rfl) h (fun v16 S15 h => ?_)
  obtain ⟨k17, h⟩ := h
  refine zp_4_153 (v := v16) rfl d_4001_24 k17 k5 ?_
  generalize e19 : zs_sR S15 4004 p0 v16 = S18
  have h := h S18 e19.symm
  have K20 : ∀ b, zs_K S18 b = zs_K S15 b := zs_Kt e19 (zs_KsR _ _ _ _) (fun _ => rfl)
  refine zu_aload_n d_4001_27 rfl (zs_ra _) ?_
  refine zu_aload_n d_4001_28 rfl (zs_ra _) ?_
  refine zu_bipush d_4001_29 zj_6 ?_
  refine zc_4_144 (x0 := (6 : Int32)) hB rfl ((K20 _).trans k17) d_4001_31 (Nat.le_of_ble_eq_true rfl) h (fun v22 S21 h => ?_)
  obtain ⟨k23, h⟩ := h
  refine zp_4_156 (v := v22) rfl d_4001_34 k23 k5 ?_
  generalize e25 : zs_sR S21 4005 p0 v22 = S24
  have h := h S24 e25.symm
  have K26 : ∀ b, zs_K S24 b = zs_K S21 b := zs_Kt e25 (zs_KsR _ _ _ _) (fun _ => rfl)
  exact (u_X5_addKnown_37 hB h).weak ⟨rfl, trivial⟩
/-! SchemaPascal$Reader.type(I)LSchemaPascal$Type; -/
theorem zm_4002 {σ : Nat → Nat} {n0 : Nat} {bf : ab_B} : ab_code (zx σ n0 bf).1 4002 = prog_9_method_10_code := rfl
theorem zq_4002 {σ : Nat → Nat} {n0 : Nat} {bf : ab_B} : ab_maxL (zx σ n0 bf).1 4002 = 3 := rfl
theorem zr_4002 {σ : Nat → Nat} {n0 : Nat} {bf : ab_B} : ab_ret (zx σ n0 bf).1 4002 = (Option.some (Jvm.ClassFile.FieldType.object "SchemaPascal$Type")) := rfl
theorem d_4002_0 {σ : Nat → Nat} {n0 : Nat} {bf : ab_B} : decode (ab_code (zx σ n0 bf).1 4002) 0 = .ok (.new 70, 3) := zd zm_4002 (by decide +kernel)
theorem d_4002_3 {σ : Nat → Nat} {n0 : Nat} {bf : ab_B} : decode (ab_code (zx σ n0 bf).1 4002) 3 = .ok (.dup, 1) := zd zm_4002 (by decide +kernel)
theorem d_4002_4 {σ : Nat → Nat} {n0 : Nat} {bf : ab_B} : decode (ab_code (zx σ n0 bf).1 4002) 4 = .ok (.iload_n 1, 1) := zd zm_4002 (by decide +kernel)
theorem d_4002_5 {σ : Nat → Nat} {n0 : Nat} {bf : ab_B} : decode (ab_code (zx σ n0 bf).1 4002) 5 = .ok (.invokespecial 125, 3) := zd zm_4002 (by decide +kernel)
theorem d_4002_8 {σ : Nat → Nat} {n0 : Nat} {bf : ab_B} : decode (ab_code (zx σ n0 bf).1 4002) 8 = .ok (.astore_n 2, 1) := zd zm_4002 (by decide +kernel)
theorem d_4002_9 {σ : Nat → Nat} {n0 : Nat} {bf : ab_B} : decode (ab_code (zx σ n0 bf).1 4002) 9 = .ok (.aload_n 2, 1) := zd zm_4002 (by decide +kernel)
theorem d_4002_10 {σ : Nat → Nat} {n0 : Nat} {bf : ab_B} : decode (ab_code (zx σ n0 bf).1 4002) 10 = .ok (.aload_n 0, 1) := zd zm_4002 (by decide +kernel)
theorem d_4002_11 {σ : Nat → Nat} {n0 : Nat} {bf : ab_B} : decode (ab_code (zx σ n0 bf).1 4002) 11 = .ok (.getfield 128, 3) := zd zm_4002 (by decide +kernel)
theorem d_4002_14 {σ : Nat → Nat} {n0 : Nat} {bf : ab_B} : decode (ab_code (zx σ n0 bf).1 4002) 14 = .ok (.getfield 132, 3) := zd zm_4002 (by decide +kernel)
theorem d_4002_17 {σ : Nat → Nat} {n0 : Nat} {bf : ab_B} : decode (ab_code (zx σ n0 bf).1 4002) 17 = .ok (.invokevirtual 50, 3) := zd zm_4002 (by decide +kernel)
theorem d_4002_20 {σ : Nat → Nat} {n0 : Nat} {bf : ab_B} : decode (ab_code (zx σ n0 bf).1 4002) 20 = .ok (.putfield 137, 3) := zd zm_4002 (by decide +kernel)
theorem d_4002_23 {σ : Nat → Nat} {n0 : Nat} {bf : ab_B} : decode (ab_code (zx σ n0 bf).1 4002) 23 = .ok (.aload_n 0, 1) := zd zm_4002 (by decide +kernel)
theorem d_4002_24 {σ : Nat → Nat} {n0 : Nat} {bf : ab_B} : decode (ab_code (zx σ n0 bf).1 4002) 24 = .ok (.getfield 128, 3) := zd zm_4002 (by decide +kernel)
theorem d_4002_27 {σ : Nat → Nat} {n0 : Nat} {bf : ab_B} : decode (ab_code (zx σ n0 bf).1 4002) 27 = .ok (.getfield 132, 3) := zd zm_4002 (by decide +kernel)
theorem d_4002_30 {σ : Nat → Nat} {n0 : Nat} {bf : ab_B} : decode (ab_code (zx σ n0 bf).1 4002) 30 = .ok (.aload_n 2, 1) := zd zm_4002 (by decide +kernel)
theorem d_4002_31 {σ : Nat → Nat} {n0 : Nat} {bf : ab_B} : decode (ab_code (zx σ n0 bf).1 4002) 31 = .ok (.invokevirtual 140, 3) := zd zm_4002 (by decide +kernel)
theorem d_4002_34 {σ : Nat → Nat} {n0 : Nat} {bf : ab_B} : decode (ab_code (zx σ n0 bf).1 4002) 34 = .ok (.pop, 1) := zd zm_4002 (by decide +kernel)
theorem d_4002_35 {σ : Nat → Nat} {n0 : Nat} {bf : ab_B} : decode (ab_code (zx σ n0 bf).1 4002) 35 = .ok (.aload_n 2, 1) := zd zm_4002 (by decide +kernel)
theorem d_4002_36 {σ : Nat → Nat} {n0 : Nat} {bf : ab_B} : decode (ab_code (zx σ n0 bf).1 4002) 36 = .ok (.areturn, 1) := zd zm_4002 (by decide +kernel)
def w_X5_type_35 (X : zs_X) (d : Nat) (p2 : Option Nat) (S : zs_T) (Q : zs_Q) : Prop :=
  (Q (.returned (some (va_rf p2))) S)
theorem u_X5_type_35 {σ : Nat → Nat} {n0 : Nat} {bf : ab_B} {d : Nat} {p2 : Option Nat} {S : zs_T} {Q : zs_Q} (hB : zt_B bf) (h : w_X5_type_35 (zx σ n0 bf) d p2 S Q) : zs_U (zx σ n0 bf) d 4002 35 [(2, va_rf p2)] [] S Q := by
  unfold w_X5_type_35 at h
  refine zu_aload_n d_4002_35 rfl (zs_rr _) ?_
  exact zu_aret d_4002_36 zr_4002 (zs_rr _) h
def w_X5_type (X : zs_X) (d : Nat) (p0 : Nat) (p1 : Int32) (S : zs_T) (Q : zs_Q) : Prop :=
  (∀ a1 S2, a1 = zs_N S → S2 = zs_nw S (.inl 6) 13 → zs_C X d 6000 [.ref a1, .int p1] S2 (zs_kV (fun S6 => (zs_K S6 p0 = some (.inl 4) ∧ ∃ b9, (zs_R S6 4001 p0) = some b9 ∧ zs_K S6 b9 = some (.inl 3) ∧ ∃ b12, (zs_R S6 3002 b9) = some b12 ∧ zs_K S6 b12 = some (.inl 16) ∧ zs_C X d 16001 [.ref b12] S6 (zs_kI (fun v16 S15 => (zs_K S15 a1 = some (.inl 6) ∧ ab_n0 X.1 ≤ a1 ∧ ∀ S19, S19 = zs_sI S15 6001 a1 v16 → zs_K S15 p0 = some (.inl 4) ∧ ∃ b23, (zs_R S19 4001 p0) = some b23 ∧ zs_K S15 b23 = some (.inl 3) ∧ ∃ b26, (zs_R S19 3002 b23) = some b26 ∧ zs_K S15 b26 = some (.inl 16) ∧ zs_C X d 16002 [.ref b26, va_rf (some a1)] S19 (zs_kI (fun v30 S29 => (w_X5_type_35 X d (some a1) S29 Q)) Q))) Q))) Q))
theorem u_X5_type {σ : Nat → Nat} {n0 : Nat} {bf : ab_B} {d : Nat} {p0 : Nat} {p1 : Int32} {S : zs_T} {Q : zs_Q} (hB : zt_B bf) (hd : 1 ≤ d) (h : w_X5_type (zx σ n0 bf) (d - 1) p0 p1 S Q) : zs_C (zx σ n0 bf) d 4002 [.ref p0, .int p1] S Q := by
  have hL : lv_args 0 [.ref p0, .int p1] = [(0, .ref p0), (1, .int p1)] := rfl
  refine zs_C.of1 (hB.2 4002 (by decide) (by decide)) hd (by rw [hL]; exact zs_sub_self _ (by exact ⟨rfl, rfl, trivial⟩)) ?_
  rw [hL]
  clear hL
  unfold w_X5_type at h
  refine zn_4_70 rfl d_4002_0 ?_
  generalize e4 : zs_nw S (.inl 6) 13 = S2
  generalize e3 : zs_N S = a1
  have h := h a1 S2 e3.symm e4.symm
  have k5 := zs_kn e3 e4
  refine zu_dup d_4002_3 rfl ?_
  refine zu_iload_n d_4002_4 rfl ?_
  refine zc_4_125 (x0 := p1) hB rfl d_4002_5 (Nat.le_of_ble_eq_true rfl) h (fun S6 h => ?_)
  refine zu_astore_n d_4002_8 (zs_ra _) (zs_lt zq_4002 rfl) ?_
  refine zu_aload_n d_4002_9 rfl (zs_ra _) ?_
  refine zu_aload_n d_4002_10 rfl (zs_ra _) ?_
  obtain ⟨k8, h⟩ := h
  refine zg_4_128 rfl d_4002_11 k8 ?_
  obtain ⟨b9, e10, h⟩ := h
  refine zs_stk0 (zs_rfe e10) ?_
  obtain ⟨k11, h⟩ := h
  refine zg_4_132 rfl d_4002_14 k11 ?_
  obtain ⟨b12, e13, h⟩ := h
  refine zs_stk0 (zs_rfe e13) ?_
  obtain ⟨k14, h⟩ := h
  refine zc_4_50  hB rfl k14 d_4002_17 (Nat.le_of_ble_eq_true rfl) h (fun v16 S15 h => ?_)
  obtain ⟨k17, h⟩ := h
  obtain ⟨k18, h⟩ := h
  refine zp_4_137 (v := v16) rfl d_4002_20 k17 k18 ?_
  generalize e20 : zs_sI S15 6001 a1 v16 = S19
  have h := h S19 e20.symm
  have K21 : ∀ b, zs_K S19 b = zs_K S15 b := zs_Kt e20 (zs_KsI _ _ _ _) (fun _ => rfl)
  refine zu_aload_n d_4002_23 rfl (zs_ra _) ?_
  obtain ⟨k22, h⟩ := h
  refine zg_4_128 rfl d_4002_24 ((K21 _).trans k22) ?_
  obtain ⟨b23, e24, h⟩ := h
  refine zs_stk0 (zs_rfe e24) ?_
  obtain ⟨k25, h⟩ := h
  refine zg_4_132 rfl d_4002_27 ((K21 _).trans k25) ?_
  refine zu_aload_n d_4002_30 rfl (zs_ra _) ?_
  obtain ⟨b26, e27, h⟩ := h
  refine zs_stk1 (zs_rfe e27) ?_
  obtain ⟨k28, h⟩ := h
  refine zc_4_140 (x0 := (some a1)) hB rfl ((K21 _).trans k28) d_4002_31 (Nat.le_of_ble_eq_true rfl) h (fun v30 S29 h => ?_)
  refine zu_pop d_4002_34 rfl ?_
  exact (u_X5_type_35 hB h).weak ⟨rfl, trivial⟩
/-! SchemaPascal$Reader.add(IILSchemaPascal$Type;)LSchemaPascal$Symbol; -/
theorem zm_4003 {σ : Nat → Nat} {n0 : Nat} {bf : ab_B} : ab_code (zx σ n0 bf).1 4003 = prog_9_method_11_code := rfl
theorem zq_4003 {σ : Nat → Nat} {n0 : Nat} {bf : ab_B} : ab_maxL (zx σ n0 bf).1 4003 = 5 := rfl
theorem zr_4003 {σ : Nat → Nat} {n0 : Nat} {bf : ab_B} : ab_ret (zx σ n0 bf).1 4003 = (Option.some (Jvm.ClassFile.FieldType.object "SchemaPascal$Symbol")) := rfl
theorem d_4003_0 {σ : Nat → Nat} {n0 : Nat} {bf : ab_B} : decode (ab_code (zx σ n0 bf).1 4003) 0 = .ok (.new 60, 3) := zd zm_4003 (by decide +kernel)
theorem d_4003_3 {σ : Nat → Nat} {n0 : Nat} {bf : ab_B} : decode (ab_code (zx σ n0 bf).1 4003) 3 = .ok (.dup, 1) := zd zm_4003 (by decide +kernel)
theorem d_4003_4 {σ : Nat → Nat} {n0 : Nat} {bf : ab_B} : decode (ab_code (zx σ n0 bf).1 4003) 4 = .ok (.iload_n 1, 1) := zd zm_4003 (by decide +kernel)
theorem d_4003_5 {σ : Nat → Nat} {n0 : Nat} {bf : ab_B} : decode (ab_code (zx σ n0 bf).1 4003) 5 = .ok (.iload_n 2, 1) := zd zm_4003 (by decide +kernel)
theorem d_4003_6 {σ : Nat → Nat} {n0 : Nat} {bf : ab_B} : decode (ab_code (zx σ n0 bf).1 4003) 6 = .ok (.invokespecial 95, 3) := zd zm_4003 (by decide +kernel)
theorem d_4003_9 {σ : Nat → Nat} {n0 : Nat} {bf : ab_B} : decode (ab_code (zx σ n0 bf).1 4003) 9 = .ok (.astore 4, 2) := zd zm_4003 (by decide +kernel)
theorem d_4003_11 {σ : Nat → Nat} {n0 : Nat} {bf : ab_B} : decode (ab_code (zx σ n0 bf).1 4003) 11 = .ok (.aload 4, 2) := zd zm_4003 (by decide +kernel)
theorem d_4003_13 {σ : Nat → Nat} {n0 : Nat} {bf : ab_B} : decode (ab_code (zx σ n0 bf).1 4003) 13 = .ok (.aload_n 3, 1) := zd zm_4003 (by decide +kernel)
theorem d_4003_14 {σ : Nat → Nat} {n0 : Nat} {bf : ab_B} : decode (ab_code (zx σ n0 bf).1 4003) 14 = .ok (.putfield 65, 3) := zd zm_4003 (by decide +kernel)
theorem d_4003_17 {σ : Nat → Nat} {n0 : Nat} {bf : ab_B} : decode (ab_code (zx σ n0 bf).1 4003) 17 = .ok (.aload_n 0, 1) := zd zm_4003 (by decide +kernel)
theorem d_4003_18 {σ : Nat → Nat} {n0 : Nat} {bf : ab_B} : decode (ab_code (zx σ n0 bf).1 4003) 18 = .ok (.getfield 46, 3) := zd zm_4003 (by decide +kernel)
theorem d_4003_21 {σ : Nat → Nat} {n0 : Nat} {bf : ab_B} : decode (ab_code (zx σ n0 bf).1 4003) 21 = .ok (.aload 4, 2) := zd zm_4003 (by decide +kernel)
theorem d_4003_23 {σ : Nat → Nat} {n0 : Nat} {bf : ab_B} : decode (ab_code (zx σ n0 bf).1 4003) 23 = .ok (.invokevirtual 140, 3) := zd zm_4003 (by decide +kernel)
theorem d_4003_26 {σ : Nat → Nat} {n0 : Nat} {bf : ab_B} : decode (ab_code (zx σ n0 bf).1 4003) 26 = .ok (.pop, 1) := zd zm_4003 (by decide +kernel)
theorem d_4003_27 {σ : Nat → Nat} {n0 : Nat} {bf : ab_B} : decode (ab_code (zx σ n0 bf).1 4003) 27 = .ok (.aload 4, 2) := zd zm_4003 (by decide +kernel)
theorem d_4003_29 {σ : Nat → Nat} {n0 : Nat} {bf : ab_B} : decode (ab_code (zx σ n0 bf).1 4003) 29 = .ok (.areturn, 1) := zd zm_4003 (by decide +kernel)
def w_X5_add (X : zs_X) (d : Nat) (p0 : Nat) (p1 : Int32) (p2 : Int32) (p3 : Option Nat) (S : zs_T) (Q : zs_Q) : Prop :=
  (∀ a1 S2, a1 = zs_N S → S2 = zs_nw S (.inl 7) 14 → zs_C X d 7000 [.ref a1, .int p1, .int p2] S2 (zs_kV (fun S6 => (zs_K S6 a1 = some (.inl 7) ∧ ab_n0 X.1 ≤ a1 ∧ ∀ S10, S10 = zs_sR S6 7002 a1 p3 → zs_K S6 p0 = some (.inl 4) ∧ ∃ b14, (zs_R S10 4008 p0) = some b14 ∧ zs_K S6 b14 = some (.inl 16) ∧ zs_C X d 16002 [.ref b14, va_rf (some a1)] S10 (zs_kI (fun v18 S17 => (Q (.returned (some (.ref a1))) S17)) Q))) Q))
theorem u_X5_add {σ : Nat → Nat} {n0 : Nat} {bf : ab_B} {d : Nat} {p0 : Nat} {p1 : Int32} {p2 : Int32} {p3 : Option Nat} {S : zs_T} {Q : zs_Q} (hB : zt_B bf) (hd : 1 ≤ d) (h : w_X5_add (zx σ n0 bf) (d - 1) p0 p1 p2 p3 S Q) : zs_C (zx σ n0 bf) d 4003 [.ref p0, .int p1, .int p2, va_rf p3] S Q := by
  have hL : lv_args 0 [.ref p0, .int p1, .int p2, va_rf p3] = [(0, .ref p0), (1, .int p1), (2, .int p2), (3, va_rf p3)] := by simp [lv_args, zs_cat, zs_cI, zs_cJ, zs_cA]
  refine zs_C.of1 (hB.2 4003 (by decide) (by decide)) hd (by rw [hL]; exact zs_sub_self _ (by exact ⟨rfl, rfl, rfl, rfl, trivial⟩)) ?_
  rw [hL]
  clear hL
  unfold w_X5_add at h
  refine zn_4_60 rfl d_4003_0 ?_
  generalize e4 : zs_nw S (.inl 7) 14 = S2
  generalize e3 : zs_N S = a1
  have h := h a1 S2 e3.symm e4.symm
  have k5 := zs_kn e3 e4
  refine zu_dup d_4003_3 rfl ?_
  refine zu_iload_n d_4003_4 rfl ?_
  refine zu_iload_n d_4003_5 rfl ?_
  refine zc_4_95 (x0 := p1) (x1 := p2) hB rfl d_4003_6 (Nat.le_of_ble_eq_true rfl) h (fun S6 h => ?_)
  refine zu_astore d_4003_9 (zs_ra _) (zs_lt zq_4003 rfl) ?_
  refine zs_U.weak (L1 := [(4, .ref a1), (0, .ref p0), (1, .int p1), (2, .int p2), (3, va_rf p3)]) ?_ ⟨rfl, zs_gp1 rfl (Or.inl rfl) rfl, zs_gp1 rfl (Or.inl rfl) rfl, zs_gp1 rfl (Or.inl rfl) rfl, zs_gp1 rfl (Or.inl (zs_cat _)) rfl, trivial⟩
  refine zu_aload d_4003_11 rfl (zs_ra _) ?_
  refine zu_aload_n d_4003_13 rfl (zs_rr _) ?_
  obtain ⟨k8, h⟩ := h
  obtain ⟨k9, h⟩ := h
  refine zp_4_65 (v := p3) rfl d_4003_14 k8 k9 ?_
  generalize e11 : zs_sR S6 7002 a1 p3 = S10
  have h := h S10 e11.symm
  have K12 : ∀ b, zs_K S10 b = zs_K S6 b := zs_Kt e11 (zs_KsR _ _ _ _) (fun _ => rfl)
  refine zu_aload_n d_4003_17 rfl (zs_ra _) ?_
  obtain ⟨k13, h⟩ := h
  refine zg_4_46 rfl d_4003_18 ((K12 _).trans k13) ?_
  refine zu_aload d_4003_21 rfl (zs_ra _) ?_
  obtain ⟨b14, e15, h⟩ := h
  refine zs_stk1 (zs_rfe e15) ?_
  obtain ⟨k16, h⟩ := h
  refine zc_4_140 (x0 := (some a1)) hB rfl ((K12 _).trans k16) d_4003_23 (Nat.le_of_ble_eq_true rfl) h (fun v18 S17 h => ?_)
  refine zu_pop d_4003_26 rfl ?_
  refine zu_aload d_4003_27 rfl (zs_ra _) ?_
  exact zu_aret d_4003_29 zr_4003 (zs_ra _) h
/-! SchemaPascal$Reader.read([BI)V -/
theorem zm_4004 {σ : Nat → Nat} {n0 : Nat} {bf : ab_B} : ab_code (zx σ n0 bf).1 4004 = prog_9_method_13_code := rfl
theorem zq_4004 {σ : Nat → Nat} {n0 : Nat} {bf : ab_B} : ab_maxL (zx σ n0 bf).1 4004 = 4 := rfl
theorem zr_4004 {σ : Nat → Nat} {n0 : Nat} {bf : ab_B} : ab_ret (zx σ n0 bf).1 4004 = (Option.none : Option Jvm.ClassFile.FieldType) := rfl
theorem d_4004_0 {σ : Nat → Nat} {n0 : Nat} {bf : ab_B} : decode (ab_code (zx σ n0 bf).1 4004) 0 = .ok (.aload_n 0, 1) := zd zm_4004 (by decide +kernel)
theorem d_4004_1 {σ : Nat → Nat} {n0 : Nat} {bf : ab_B} : decode (ab_code (zx σ n0 bf).1 4004) 1 = .ok (.getfield 128, 3) := zd zm_4004 (by decide +kernel)
theorem d_4004_4 {σ : Nat → Nat} {n0 : Nat} {bf : ab_B} : decode (ab_code (zx σ n0 bf).1 4004) 4 = .ok (.aload_n 0, 1) := zd zm_4004 (by decide +kernel)
theorem d_4004_5 {σ : Nat → Nat} {n0 : Nat} {bf : ab_B} : decode (ab_code (zx σ n0 bf).1 4004) 5 = .ok (.getfield 174, 3) := zd zm_4004 (by decide +kernel)
theorem d_4004_8 {σ : Nat → Nat} {n0 : Nat} {bf : ab_B} : decode (ab_code (zx σ n0 bf).1 4004) 8 = .ok (.invokevirtual 177, 3) := zd zm_4004 (by decide +kernel)
theorem d_4004_11 {σ : Nat → Nat} {n0 : Nat} {bf : ab_B} : decode (ab_code (zx σ n0 bf).1 4004) 11 = .ok (.aload_n 0, 1) := zd zm_4004 (by decide +kernel)
theorem d_4004_12 {σ : Nat → Nat} {n0 : Nat} {bf : ab_B} : decode (ab_code (zx σ n0 bf).1 4004) 12 = .ok (.getfield 46, 3) := zd zm_4004 (by decide +kernel)
theorem d_4004_15 {σ : Nat → Nat} {n0 : Nat} {bf : ab_B} : decode (ab_code (zx σ n0 bf).1 4004) 15 = .ok (.invokevirtual 50, 3) := zd zm_4004 (by decide +kernel)
theorem d_4004_18 {σ : Nat → Nat} {n0 : Nat} {bf : ab_B} : decode (ab_code (zx σ n0 bf).1 4004) 18 = .ok (.aload_n 0, 1) := zd zm_4004 (by decide +kernel)
theorem d_4004_19 {σ : Nat → Nat} {n0 : Nat} {bf : ab_B} : decode (ab_code (zx σ n0 bf).1 4004) 19 = .ok (.getfield 180, 3) := zd zm_4004 (by decide +kernel)
theorem d_4004_22 {σ : Nat → Nat} {n0 : Nat} {bf : ab_B} : decode (ab_code (zx σ n0 bf).1 4004) 22 = .ok (.if_icmp .le 23, 3) := zd zm_4004 (by decide +kernel)
theorem d_4004_25 {σ : Nat → Nat} {n0 : Nat} {bf : ab_B} : decode (ab_code (zx σ n0 bf).1 4004) 25 = .ok (.aload_n 0, 1) := zd zm_4004 (by decide +kernel)
theorem d_4004_26 {σ : Nat → Nat} {n0 : Nat} {bf : ab_B} : decode (ab_code (zx σ n0 bf).1 4004) 26 = .ok (.getfield 46, 3) := zd zm_4004 (by decide +kernel)
theorem d_4004_29 {σ : Nat → Nat} {n0 : Nat} {bf : ab_B} : decode (ab_code (zx σ n0 bf).1 4004) 29 = .ok (.aload_n 0, 1) := zd zm_4004 (by decide +kernel)
theorem d_4004_30 {σ : Nat → Nat} {n0 : Nat} {bf : ab_B} : decode (ab_code (zx σ n0 bf).1 4004) 30 = .ok (.getfield 46, 3) := zd zm_4004 (by decide +kernel)
theorem d_4004_33 {σ : Nat → Nat} {n0 : Nat} {bf : ab_B} : decode (ab_code (zx σ n0 bf).1 4004) 33 = .ok (.invokevirtual 50, 3) := zd zm_4004 (by decide +kernel)
theorem d_4004_36 {σ : Nat → Nat} {n0 : Nat} {bf : ab_B} : decode (ab_code (zx σ n0 bf).1 4004) 36 = .ok (.iconst 1, 1) := zd zm_4004 (by decide +kernel)
theorem d_4004_37 {σ : Nat → Nat} {n0 : Nat} {bf : ab_B} : decode (ab_code (zx σ n0 bf).1 4004) 37 = .ok (.isub, 1) := zd zm_4004 (by decide +kernel)
theorem d_4004_38 {σ : Nat → Nat} {n0 : Nat} {bf : ab_B} : decode (ab_code (zx σ n0 bf).1 4004) 38 = .ok (.invokevirtual 183, 3) := zd zm_4004 (by decide +kernel)
theorem d_4004_41 {σ : Nat → Nat} {n0 : Nat} {bf : ab_B} : decode (ab_code (zx σ n0 bf).1 4004) 41 = .ok (.pop, 1) := zd zm_4004 (by decide +kernel)
theorem d_4004_42 {σ : Nat → Nat} {n0 : Nat} {bf : ab_B} : decode (ab_code (zx σ n0 bf).1 4004) 42 = .ok (.goto (-31), 3) := zd zm_4004 (by decide +kernel)
theorem d_4004_45 {σ : Nat → Nat} {n0 : Nat} {bf : ab_B} : decode (ab_code (zx σ n0 bf).1 4004) 45 = .ok (.aload_n 0, 1) := zd zm_4004 (by decide +kernel)
theorem d_4004_46 {σ : Nat → Nat} {n0 : Nat} {bf : ab_B} : decode (ab_code (zx σ n0 bf).1 4004) 46 = .ok (.getfield 186, 3) := zd zm_4004 (by decide +kernel)
theorem d_4004_49 {σ : Nat → Nat} {n0 : Nat} {bf : ab_B} : decode (ab_code (zx σ n0 bf).1 4004) 49 = .ok (.invokevirtual 189, 3) := zd zm_4004 (by decide +kernel)
theorem d_4004_52 {σ : Nat → Nat} {n0 : Nat} {bf : ab_B} : decode (ab_code (zx σ n0 bf).1 4004) 52 = .ok (.aload_n 0, 1) := zd zm_4004 (by decide +kernel)
theorem d_4004_53 {σ : Nat → Nat} {n0 : Nat} {bf : ab_B} : decode (ab_code (zx σ n0 bf).1 4004) 53 = .ok (.getfield 191, 3) := zd zm_4004 (by decide +kernel)
theorem d_4004_56 {σ : Nat → Nat} {n0 : Nat} {bf : ab_B} : decode (ab_code (zx σ n0 bf).1 4004) 56 = .ok (.invokevirtual 189, 3) := zd zm_4004 (by decide +kernel)
theorem d_4004_59 {σ : Nat → Nat} {n0 : Nat} {bf : ab_B} : decode (ab_code (zx σ n0 bf).1 4004) 59 = .ok (.aload_n 0, 1) := zd zm_4004 (by decide +kernel)
theorem d_4004_60 {σ : Nat → Nat} {n0 : Nat} {bf : ab_B} : decode (ab_code (zx σ n0 bf).1 4004) 60 = .ok (.getfield 194, 3) := zd zm_4004 (by decide +kernel)
theorem d_4004_63 {σ : Nat → Nat} {n0 : Nat} {bf : ab_B} : decode (ab_code (zx σ n0 bf).1 4004) 63 = .ok (.invokevirtual 189, 3) := zd zm_4004 (by decide +kernel)
theorem d_4004_66 {σ : Nat → Nat} {n0 : Nat} {bf : ab_B} : decode (ab_code (zx σ n0 bf).1 4004) 66 = .ok (.aload_n 0, 1) := zd zm_4004 (by decide +kernel)
theorem d_4004_67 {σ : Nat → Nat} {n0 : Nat} {bf : ab_B} : decode (ab_code (zx σ n0 bf).1 4004) 67 = .ok (.iconst 0, 1) := zd zm_4004 (by decide +kernel)
theorem d_4004_68 {σ : Nat → Nat} {n0 : Nat} {bf : ab_B} : decode (ab_code (zx σ n0 bf).1 4004) 68 = .ok (.putfield 115, 3) := zd zm_4004 (by decide +kernel)
theorem d_4004_71 {σ : Nat → Nat} {n0 : Nat} {bf : ab_B} : decode (ab_code (zx σ n0 bf).1 4004) 71 = .ok (.aload_n 0, 1) := zd zm_4004 (by decide +kernel)
theorem d_4004_72 {σ : Nat → Nat} {n0 : Nat} {bf : ab_B} : decode (ab_code (zx σ n0 bf).1 4004) 72 = .ok (.iconst 0, 1) := zd zm_4004 (by decide +kernel)
theorem d_4004_73 {σ : Nat → Nat} {n0 : Nat} {bf : ab_B} : decode (ab_code (zx σ n0 bf).1 4004) 73 = .ok (.putfield 43, 3) := zd zm_4004 (by decide +kernel)
theorem d_4004_76 {σ : Nat → Nat} {n0 : Nat} {bf : ab_B} : decode (ab_code (zx σ n0 bf).1 4004) 76 = .ok (.aload_n 0, 1) := zd zm_4004 (by decide +kernel)
theorem d_4004_77 {σ : Nat → Nat} {n0 : Nat} {bf : ab_B} : decode (ab_code (zx σ n0 bf).1 4004) 77 = .ok (.iconst 0, 1) := zd zm_4004 (by decide +kernel)
theorem d_4004_78 {σ : Nat → Nat} {n0 : Nat} {bf : ab_B} : decode (ab_code (zx σ n0 bf).1 4004) 78 = .ok (.putfield 197, 3) := zd zm_4004 (by decide +kernel)
theorem d_4004_81 {σ : Nat → Nat} {n0 : Nat} {bf : ab_B} : decode (ab_code (zx σ n0 bf).1 4004) 81 = .ok (.aload_n 0, 1) := zd zm_4004 (by decide +kernel)
theorem d_4004_82 {σ : Nat → Nat} {n0 : Nat} {bf : ab_B} : decode (ab_code (zx σ n0 bf).1 4004) 82 = .ok (.aconst_null, 1) := zd zm_4004 (by decide +kernel)
theorem d_4004_83 {σ : Nat → Nat} {n0 : Nat} {bf : ab_B} : decode (ab_code (zx σ n0 bf).1 4004) 83 = .ok (.putfield 200, 3) := zd zm_4004 (by decide +kernel)
theorem d_4004_86 {σ : Nat → Nat} {n0 : Nat} {bf : ab_B} : decode (ab_code (zx σ n0 bf).1 4004) 86 = .ok (.aload_n 0, 1) := zd zm_4004 (by decide +kernel)
theorem d_4004_87 {σ : Nat → Nat} {n0 : Nat} {bf : ab_B} : decode (ab_code (zx σ n0 bf).1 4004) 87 = .ok (.iconst 0, 1) := zd zm_4004 (by decide +kernel)
theorem d_4004_88 {σ : Nat → Nat} {n0 : Nat} {bf : ab_B} : decode (ab_code (zx σ n0 bf).1 4004) 88 = .ok (.putfield 203, 3) := zd zm_4004 (by decide +kernel)
theorem d_4004_91 {σ : Nat → Nat} {n0 : Nat} {bf : ab_B} : decode (ab_code (zx σ n0 bf).1 4004) 91 = .ok (.aload_n 0, 1) := zd zm_4004 (by decide +kernel)
theorem d_4004_92 {σ : Nat → Nat} {n0 : Nat} {bf : ab_B} : decode (ab_code (zx σ n0 bf).1 4004) 92 = .ok (.getfield 5, 3) := zd zm_4004 (by decide +kernel)
theorem d_4004_95 {σ : Nat → Nat} {n0 : Nat} {bf : ab_B} : decode (ab_code (zx σ n0 bf).1 4004) 95 = .ok (.aload_n 1, 1) := zd zm_4004 (by decide +kernel)
theorem d_4004_96 {σ : Nat → Nat} {n0 : Nat} {bf : ab_B} : decode (ab_code (zx σ n0 bf).1 4004) 96 = .ok (.iload_n 2, 1) := zd zm_4004 (by decide +kernel)
theorem d_4004_97 {σ : Nat → Nat} {n0 : Nat} {bf : ab_B} : decode (ab_code (zx σ n0 bf).1 4004) 97 = .ok (.invokevirtual 206, 3) := zd zm_4004 (by decide +kernel)
theorem d_4004_100 {σ : Nat → Nat} {n0 : Nat} {bf : ab_B} : decode (ab_code (zx σ n0 bf).1 4004) 100 = .ok (.aload_n 0, 1) := zd zm_4004 (by decide +kernel)
theorem d_4004_101 {σ : Nat → Nat} {n0 : Nat} {bf : ab_B} : decode (ab_code (zx σ n0 bf).1 4004) 101 = .ok (.aload_n 0, 1) := zd zm_4004 (by decide +kernel)
theorem d_4004_102 {σ : Nat → Nat} {n0 : Nat} {bf : ab_B} : decode (ab_code (zx σ n0 bf).1 4004) 102 = .ok (.getfield 46, 3) := zd zm_4004 (by decide +kernel)
theorem d_4004_105 {σ : Nat → Nat} {n0 : Nat} {bf : ab_B} : decode (ab_code (zx σ n0 bf).1 4004) 105 = .ok (.invokevirtual 50, 3) := zd zm_4004 (by decide +kernel)
theorem d_4004_108 {σ : Nat → Nat} {n0 : Nat} {bf : ab_B} : decode (ab_code (zx σ n0 bf).1 4004) 108 = .ok (.putfield 115, 3) := zd zm_4004 (by decide +kernel)
theorem d_4004_111 {σ : Nat → Nat} {n0 : Nat} {bf : ab_B} : decode (ab_code (zx σ n0 bf).1 4004) 111 = .ok (.new 210, 3) := zd zm_4004 (by decide +kernel)
theorem d_4004_114 {σ : Nat → Nat} {n0 : Nat} {bf : ab_B} : decode (ab_code (zx σ n0 bf).1 4004) 114 = .ok (.dup, 1) := zd zm_4004 (by decide +kernel)
theorem d_4004_115 {σ : Nat → Nat} {n0 : Nat} {bf : ab_B} : decode (ab_code (zx σ n0 bf).1 4004) 115 = .ok (.iconst 0, 1) := zd zm_4004 (by decide +kernel)
theorem d_4004_116 {σ : Nat → Nat} {n0 : Nat} {bf : ab_B} : decode (ab_code (zx σ n0 bf).1 4004) 116 = .ok (.aload_n 0, 1) := zd zm_4004 (by decide +kernel)
theorem d_4004_117 {σ : Nat → Nat} {n0 : Nat} {bf : ab_B} : decode (ab_code (zx σ n0 bf).1 4004) 117 = .ok (.getfield 5, 3) := zd zm_4004 (by decide +kernel)
theorem d_4004_120 {σ : Nat → Nat} {n0 : Nat} {bf : ab_B} : decode (ab_code (zx σ n0 bf).1 4004) 120 = .ok (.getfield 11, 3) := zd zm_4004 (by decide +kernel)
theorem d_4004_123 {σ : Nat → Nat} {n0 : Nat} {bf : ab_B} : decode (ab_code (zx σ n0 bf).1 4004) 123 = .ok (.aconst_null, 1) := zd zm_4004 (by decide +kernel)
theorem d_4004_124 {σ : Nat → Nat} {n0 : Nat} {bf : ab_B} : decode (ab_code (zx σ n0 bf).1 4004) 124 = .ok (.invokespecial 212, 3) := zd zm_4004 (by decide +kernel)
theorem d_4004_127 {σ : Nat → Nat} {n0 : Nat} {bf : ab_B} : decode (ab_code (zx σ n0 bf).1 4004) 127 = .ok (.astore_n 3, 1) := zd zm_4004 (by decide +kernel)
theorem d_4004_128 {σ : Nat → Nat} {n0 : Nat} {bf : ab_B} : decode (ab_code (zx σ n0 bf).1 4004) 128 = .ok (.aload_n 0, 1) := zd zm_4004 (by decide +kernel)
theorem d_4004_129 {σ : Nat → Nat} {n0 : Nat} {bf : ab_B} : decode (ab_code (zx σ n0 bf).1 4004) 129 = .ok (.getfield 128, 3) := zd zm_4004 (by decide +kernel)
theorem d_4004_132 {σ : Nat → Nat} {n0 : Nat} {bf : ab_B} : decode (ab_code (zx σ n0 bf).1 4004) 132 = .ok (.getfield 215, 3) := zd zm_4004 (by decide +kernel)
theorem d_4004_135 {σ : Nat → Nat} {n0 : Nat} {bf : ab_B} : decode (ab_code (zx σ n0 bf).1 4004) 135 = .ok (.aload_n 3, 1) := zd zm_4004 (by decide +kernel)
theorem d_4004_136 {σ : Nat → Nat} {n0 : Nat} {bf : ab_B} : decode (ab_code (zx σ n0 bf).1 4004) 136 = .ok (.invokevirtual 140, 3) := zd zm_4004 (by decide +kernel)
theorem d_4004_139 {σ : Nat → Nat} {n0 : Nat} {bf : ab_B} : decode (ab_code (zx σ n0 bf).1 4004) 139 = .ok (.pop, 1) := zd zm_4004 (by decide +kernel)
theorem d_4004_140 {σ : Nat → Nat} {n0 : Nat} {bf : ab_B} : decode (ab_code (zx σ n0 bf).1 4004) 140 = .ok (.aload_n 0, 1) := zd zm_4004 (by decide +kernel)
theorem d_4004_141 {σ : Nat → Nat} {n0 : Nat} {bf : ab_B} : decode (ab_code (zx σ n0 bf).1 4004) 141 = .ok (.aload_n 3, 1) := zd zm_4004 (by decide +kernel)
theorem d_4004_142 {σ : Nat → Nat} {n0 : Nat} {bf : ab_B} : decode (ab_code (zx σ n0 bf).1 4004) 142 = .ok (.putfield 218, 3) := zd zm_4004 (by decide +kernel)
theorem d_4004_145 {σ : Nat → Nat} {n0 : Nat} {bf : ab_B} : decode (ab_code (zx σ n0 bf).1 4004) 145 = .ok (.aload_n 0, 1) := zd zm_4004 (by decide +kernel)
theorem d_4004_146 {σ : Nat → Nat} {n0 : Nat} {bf : ab_B} : decode (ab_code (zx σ n0 bf).1 4004) 146 = .ok (.iconst 0, 1) := zd zm_4004 (by decide +kernel)
theorem d_4004_147 {σ : Nat → Nat} {n0 : Nat} {bf : ab_B} : decode (ab_code (zx σ n0 bf).1 4004) 147 = .ok (.invokevirtual 221, 3) := zd zm_4004 (by decide +kernel)
theorem d_4004_150 {σ : Nat → Nat} {n0 : Nat} {bf : ab_B} : decode (ab_code (zx σ n0 bf).1 4004) 150 = .ok (.aload_n 0, 1) := zd zm_4004 (by decide +kernel)
theorem d_4004_151 {σ : Nat → Nat} {n0 : Nat} {bf : ab_B} : decode (ab_code (zx σ n0 bf).1 4004) 151 = .ok (.invokevirtual 122, 3) := zd zm_4004 (by decide +kernel)
theorem d_4004_154 {σ : Nat → Nat} {n0 : Nat} {bf : ab_B} : decode (ab_code (zx σ n0 bf).1 4004) 154 = .ok (.pop, 1) := zd zm_4004 (by decide +kernel)
theorem d_4004_155 {σ : Nat → Nat} {n0 : Nat} {bf : ab_B} : decode (ab_code (zx σ n0 bf).1 4004) 155 = .ok (.aload_n 0, 1) := zd zm_4004 (by decide +kernel)
theorem d_4004_156 {σ : Nat → Nat} {n0 : Nat} {bf : ab_B} : decode (ab_code (zx σ n0 bf).1 4004) 156 = .ok (.bipush 59, 2) := zd zm_4004 (by decide +kernel)
theorem d_4004_158 {σ : Nat → Nat} {n0 : Nat} {bf : ab_B} : decode (ab_code (zx σ n0 bf).1 4004) 158 = .ok (.invokevirtual 224, 3) := zd zm_4004 (by decide +kernel)
theorem d_4004_161 {σ : Nat → Nat} {n0 : Nat} {bf : ab_B} : decode (ab_code (zx σ n0 bf).1 4004) 161 = .ok (.aload_n 0, 1) := zd zm_4004 (by decide +kernel)
theorem d_4004_162 {σ : Nat → Nat} {n0 : Nat} {bf : ab_B} : decode (ab_code (zx σ n0 bf).1 4004) 162 = .ok (.aload_n 3, 1) := zd zm_4004 (by decide +kernel)
theorem d_4004_163 {σ : Nat → Nat} {n0 : Nat} {bf : ab_B} : decode (ab_code (zx σ n0 bf).1 4004) 163 = .ok (.invokevirtual 227, 3) := zd zm_4004 (by decide +kernel)
theorem d_4004_166 {σ : Nat → Nat} {n0 : Nat} {bf : ab_B} : decode (ab_code (zx σ n0 bf).1 4004) 166 = .ok (.aload_n 0, 1) := zd zm_4004 (by decide +kernel)
theorem d_4004_167 {σ : Nat → Nat} {n0 : Nat} {bf : ab_B} : decode (ab_code (zx σ n0 bf).1 4004) 167 = .ok (.bipush 46, 2) := zd zm_4004 (by decide +kernel)
theorem d_4004_169 {σ : Nat → Nat} {n0 : Nat} {bf : ab_B} : decode (ab_code (zx σ n0 bf).1 4004) 169 = .ok (.invokevirtual 224, 3) := zd zm_4004 (by decide +kernel)
theorem d_4004_172 {σ : Nat → Nat} {n0 : Nat} {bf : ab_B} : decode (ab_code (zx σ n0 bf).1 4004) 172 = .ok (.aload_n 0, 1) := zd zm_4004 (by decide +kernel)
theorem d_4004_173 {σ : Nat → Nat} {n0 : Nat} {bf : ab_B} : decode (ab_code (zx σ n0 bf).1 4004) 173 = .ok (.getfield 5, 3) := zd zm_4004 (by decide +kernel)
theorem d_4004_176 {σ : Nat → Nat} {n0 : Nat} {bf : ab_B} : decode (ab_code (zx σ n0 bf).1 4004) 176 = .ok (.getfield 231, 3) := zd zm_4004 (by decide +kernel)
theorem d_4004_179 {σ : Nat → Nat} {n0 : Nat} {bf : ab_B} : decode (ab_code (zx σ n0 bf).1 4004) 179 = .ok (.iconst 4, 1) := zd zm_4004 (by decide +kernel)
theorem d_4004_180 {σ : Nat → Nat} {n0 : Nat} {bf : ab_B} : decode (ab_code (zx σ n0 bf).1 4004) 180 = .ok (.if_icmp .eq 9, 3) := zd zm_4004 (by decide +kernel)
theorem d_4004_183 {σ : Nat → Nat} {n0 : Nat} {bf : ab_B} : decode (ab_code (zx σ n0 bf).1 4004) 183 = .ok (.aload_n 0, 1) := zd zm_4004 (by decide +kernel)
theorem d_4004_184 {σ : Nat → Nat} {n0 : Nat} {bf : ab_B} : decode (ab_code (zx σ n0 bf).1 4004) 184 = .ok (.iconst 2, 1) := zd zm_4004 (by decide +kernel)
theorem d_4004_185 {σ : Nat → Nat} {n0 : Nat} {bf : ab_B} : decode (ab_code (zx σ n0 bf).1 4004) 185 = .ok (.invokevirtual 25, 3) := zd zm_4004 (by decide +kernel)
theorem d_4004_188 {σ : Nat → Nat} {n0 : Nat} {bf : ab_B} : decode (ab_code (zx σ n0 bf).1 4004) 188 = .ok (.athrow, 1) := zd zm_4004 (by decide +kernel)
theorem d_4004_189 {σ : Nat → Nat} {n0 : Nat} {bf : ab_B} : decode (ab_code (zx σ n0 bf).1 4004) 189 = .ok (.return_, 1) := zd zm_4004 (by decide +kernel)
def w_X5_read_172 (X : zs_X) (d : Nat) (p0 : Nat) (S : zs_T) (Q : zs_Q) : Prop :=
  (zs_K S p0 = some (.inl 4) ∧ ∃ b2, (zs_R S 4000 p0) = some b2 ∧ zs_K S b2 = some (.inl 5) ∧ (((zs_I S 5003 b2) = (4 : Int32) → (Q (.returned none) S)) ∧ (¬ ((zs_I S 5003 b2) = (4 : Int32)) → (zs_C X d 4006 [.ref p0, .int (2 : Int32)] S (zs_kR (fun v7 S6 => (∃ b8, v7 = some b8 ∧ Q (.threw b8) S6)) Q)))))
theorem u_X5_read_172 {σ : Nat → Nat} {n0 : Nat} {bf : ab_B} {d : Nat} {p0 : Nat} {S : zs_T} {Q : zs_Q} (hB : zt_B bf) (h : w_X5_read_172 (zx σ n0 bf) d p0 S Q) : zs_U (zx σ n0 bf) d 4004 172 [(0, .ref p0)] [] S Q := by
  unfold w_X5_read_172 at h
  refine zu_aload_n d_4004_172 rfl (zs_ra _) ?_
  obtain ⟨k1, h⟩ := h
  refine zg_4_5 rfl d_4004_173 k1 ?_
  obtain ⟨b2, e3, h⟩ := h
  refine zs_stk0 (zs_rfe e3) ?_
  obtain ⟨k4, h⟩ := h
  refine zg_4_231 rfl d_4004_176 k4 ?_
  refine zu_iconst d_4004_179 zi_4 ?_
  refine zu_cmpeq (t := 189) d_4004_180 rfl (fun c5 => ?_) (fun c5 => ?_)
  · have h := h.1 c5
    exact zu_vret d_4004_189 zr_4004 h
  · have h := h.2 c5
    refine zu_aload_n d_4004_183 rfl (zs_ra _) ?_
    refine zu_iconst d_4004_184 zi_2 ?_
    refine zc_4_25 (x0 := (2 : Int32)) hB rfl k1 d_4004_185 (Nat.le_of_ble_eq_true rfl) h (fun v7 S6 h => ?_)
    obtain ⟨b8, e9, h⟩ := h
    refine zs_stk0 (zs_rfe e9) ?_
    exact zu_throw d_4004_188 h
def w_X5_read_140 (X : zs_X) (d : Nat) (p0 : Nat) (p3 : Option Nat) (S : zs_T) (Q : zs_Q) : Prop :=
  (zs_K S p0 = some (.inl 4) ∧ ab_n0 X.1 ≤ p0 ∧ ∀ S3, S3 = zs_sR S 4010 p0 p3 → zs_C X d 4005 [.ref p0, .int (0 : Int32)] S3 (zs_kV (fun S6 => (zs_K S6 p0 = some (.inl 4) ∧ zs_C X d 4007 [.ref p0] S6 (zs_kI (fun v10 S9 => (zs_K S9 p0 = some (.inl 4) ∧ zs_C X d 4008 [.ref p0, .int (59 : Int32)] S9 (zs_kV (fun S12 => (zs_K S12 p0 = some (.inl 4) ∧ zs_C X d 4009 [.ref p0, va_rf p3] S12 (zs_kV (fun S15 => (zs_K S15 p0 = some (.inl 4) ∧ zs_C X d 4008 [.ref p0, .int (46 : Int32)] S15 (zs_kV (fun S18 => w_X5_read_172 X d p0 S18 Q) Q))) Q))) Q))) Q))) Q))
theorem u_X5_read_140 {σ : Nat → Nat} {n0 : Nat} {bf : ab_B} {d : Nat} {p0 : Nat} {p3 : Option Nat} {S : zs_T} {Q : zs_Q} (hB : zt_B bf) (h : w_X5_read_140 (zx σ n0 bf) d p0 p3 S Q) : zs_U (zx σ n0 bf) d 4004 140 [(0, .ref p0), (3, va_rf p3)] [] S Q := by
  unfold w_X5_read_140 at h
  refine zu_aload_n d_4004_140 rfl (zs_ra _) ?_
  refine zu_aload_n d_4004_141 rfl (zs_rr _) ?_
  obtain ⟨k1, h⟩ := h
  obtain ⟨k2, h⟩ := h
  refine zp_4_218 (v := p3) rfl d_4004_142 k1 k2 ?_
  generalize e4 : zs_sR S 4010 p0 p3 = S3
  have h := h S3 e4.symm
  have K5 : ∀ b, zs_K S3 b = zs_K S b := zs_Kt e4 (zs_KsR _ _ _ _) (fun _ => rfl)
  refine zu_aload_n d_4004_145 rfl (zs_ra _) ?_
  refine zu_iconst d_4004_146 zi_0 ?_
  refine zc_4_221 (x0 := (0 : Int32)) hB rfl ((K5 _).trans k1) d_4004_147 (Nat.le_of_ble_eq_true rfl) h (fun S6 h => ?_)
  refine zu_aload_n d_4004_150 rfl (zs_ra _) ?_
  obtain ⟨k8, h⟩ := h
  refine zc_4_122  hB rfl k8 d_4004_151 (Nat.le_of_ble_eq_true rfl) h (fun v10 S9 h => ?_)
  refine zu_pop d_4004_154 rfl ?_
  refine zu_aload_n d_4004_155 rfl (zs_ra _) ?_
  refine zu_bipush d_4004_156 zj_59 ?_
  obtain ⟨k11, h⟩ := h
  refine zc_4_224 (x0 := (59 : Int32)) hB rfl k11 d_4004_158 (Nat.le_of_ble_eq_true rfl) h (fun S12 h => ?_)
  refine zu_aload_n d_4004_161 rfl (zs_ra _) ?_
  refine zu_aload_n d_4004_162 rfl (zs_rr _) ?_
  obtain ⟨k14, h⟩ := h
  refine zc_4_227 (x0 := p3) hB rfl k14 d_4004_163 (Nat.le_of_ble_eq_true rfl) h (fun S15 h => ?_)
  refine zu_aload_n d_4004_166 rfl (zs_ra _) ?_
  refine zu_bipush d_4004_167 zj_46 ?_
  obtain ⟨k17, h⟩ := h
  refine zc_4_224 (x0 := (46 : Int32)) hB rfl k17 d_4004_169 (Nat.le_of_ble_eq_true rfl) h (fun S18 h => ?_)
  exact (u_X5_read_172 hB h).weak ⟨rfl, trivial⟩
def w_X5_read_100 (X : zs_X) (d : Nat) (p0 : Nat) (S : zs_T) (Q : zs_Q) : Prop :=
  (zs_K S p0 = some (.inl 4) ∧ ∃ b2, (zs_R S 4008 p0) = some b2 ∧ zs_K S b2 = some (.inl 16) ∧ zs_C X d 16001 [.ref b2] S (zs_kI (fun v6 S5 => (zs_K S5 p0 = some (.inl 4) ∧ ab_n0 X.1 ≤ p0 ∧ ∀ S9, S9 = zs_sI S5 4009 p0 v6 → ∀ a12 S13, a12 = zs_N S9 → S13 = zs_nw S9 (.inl 10) 12 → zs_K S13 p0 = some (.inl 4) ∧ ∃ b18, (zs_R S13 4000 p0) = some b18 ∧ zs_K S13 b18 = some (.inl 5) ∧ zs_C X d 10000 [.ref a12, .int (0 : Int32), .int (zs_I S13 5005 b18), va_rf none] S13 (zs_kV (fun S21 => (zs_K S21 p0 = some (.inl 4) ∧ ∃ b24, (zs_R S21 4001 p0) = some b24 ∧ zs_K S21 b24 = some (.inl 3) ∧ ∃ b27, (zs_R S21 3004 b24) = some b27 ∧ zs_K S21 b27 = some (.inl 16) ∧ zs_C X d 16002 [.ref b27, va_rf (some a12)] S21 (zs_kI (fun v31 S30 => (w_X5_read_140 X d p0 (some a12) S30 Q)) Q))) Q))) Q))
theorem u_X5_read_100 {σ : Nat → Nat} {n0 : Nat} {bf : ab_B} {d : Nat} {p0 : Nat} {S : zs_T} {Q : zs_Q} (hB : zt_B bf) (h : w_X5_read_100 (zx σ n0 bf) d p0 S Q) : zs_U (zx σ n0 bf) d 4004 100 [(0, .ref p0)] [] S Q := by
  unfold w_X5_read_100 at h
  refine zu_aload_n d_4004_100 rfl (zs_ra _) ?_
  refine zu_aload_n d_4004_101 rfl (zs_ra _) ?_
  obtain ⟨k1, h⟩ := h
  refine zg_4_46 rfl d_4004_102 k1 ?_
  obtain ⟨b2, e3, h⟩ := h
  refine zs_stk0 (zs_rfe e3) ?_
  obtain ⟨k4, h⟩ := h
  refine zc_4_50  hB rfl k4 d_4004_105 (Nat.le_of_ble_eq_true rfl) h (fun v6 S5 h => ?_)
  obtain ⟨k7, h⟩ := h
  obtain ⟨k8, h⟩ := h
  refine zp_4_115 (v := v6) rfl d_4004_108 k7 k8 ?_
  generalize e10 : zs_sI S5 4009 p0 v6 = S9
  have h := h S9 e10.symm
  have K11 : ∀ b, zs_K S9 b = zs_K S5 b := zs_Kt e10 (zs_KsI _ _ _ _) (fun _ => rfl)
  refine zn_4_210 rfl d_4004_111 ?_
  generalize e15 : zs_nw S9 (.inl 10) 12 = S13
  generalize e14 : zs_N S9 = a12
  have h := h a12 S13 e14.symm e15.symm
  have k16 := zs_kn e14 e15
  refine zu_dup d_4004_114 rfl ?_
  refine zu_iconst d_4004_115 zi_0 ?_
  refine zu_aload_n d_4004_116 rfl (zs_ra _) ?_
  obtain ⟨k17, h⟩ := h
  refine zg_4_5 rfl d_4004_117 k17 ?_
  obtain ⟨b18, e19, h⟩ := h
  refine zs_stk0 (zs_rfe e19) ?_
  obtain ⟨k20, h⟩ := h
  refine zg_4_11 rfl d_4004_120 k20 ?_
  refine zu_stk d_4004_123 rfl rfl ?_
  refine zc_4_212 (x0 := (0 : Int32)) (x1 := (zs_I S13 5005 b18)) (x2 := none) hB rfl d_4004_124 (Nat.le_of_ble_eq_true rfl) h (fun S21 h => ?_)
  refine zu_astore_n d_4004_127 (zs_ra _) (zs_lt zq_4004 rfl) ?_
  refine zu_aload_n d_4004_128 rfl (zs_ra _) ?_
  obtain ⟨k23, h⟩ := h
  refine zg_4_128 rfl d_4004_129 k23 ?_
  obtain ⟨b24, e25, h⟩ := h
  refine zs_stk0 (zs_rfe e25) ?_
  obtain ⟨k26, h⟩ := h
  refine zg_4_215 rfl d_4004_132 k26 ?_
  refine zu_aload_n d_4004_135 rfl (zs_ra _) ?_
  obtain ⟨b27, e28, h⟩ := h
  refine zs_stk1 (zs_rfe e28) ?_
  obtain ⟨k29, h⟩ := h
  refine zc_4_140 (x0 := (some a12)) hB rfl k29 d_4004_136 (Nat.le_of_ble_eq_true rfl) h (fun v31 S30 h => ?_)
  refine zu_pop d_4004_139 rfl ?_
  exact (u_X5_read_140 hB h).weak ⟨rfl, rfl, trivial⟩
def w_X5_read_71 (X : zs_X) (d : Nat) (p0 : Nat) (p1 : Option Nat) (p2 : Int32) (S : zs_T) (Q : zs_Q) : Prop :=
  (zs_K S p0 = some (.inl 4) ∧ ab_n0 X.1 ≤ p0 ∧ ∀ S3, S3 = zs_sI S 4011 p0 (0 : Int32) → ∀ S6, S6 = zs_sI S3 4012 p0 (0 : Int32) → ∀ S9, S9 = zs_sR S6 4016 p0 none → ∀ S12, S12 = zs_sI S9 4017 p0 (0 : Int32) → ∃ b15, (zs_R S12 4000 p0) = some b15 ∧ zs_K S b15 = some (.inl 5) ∧ zs_C X d 5001 [.ref b15, va_rf p1, .int p2] S12 (zs_kV (fun S18 => w_X5_read_100 X d p0 S18 Q) Q))
theorem u_X5_read_71 {σ : Nat → Nat} {n0 : Nat} {bf : ab_B} {d : Nat} {p0 : Nat} {p1 : Option Nat} {p2 : Int32} {S : zs_T} {Q : zs_Q} (hB : zt_B bf) (h : w_X5_read_71 (zx σ n0 bf) d p0 p1 p2 S Q) : zs_U (zx σ n0 bf) d 4004 71 [(0, .ref p0), (1, va_rf p1), (2, .int p2)] [] S Q := by
  unfold w_X5_read_71 at h
  refine zu_aload_n d_4004_71 rfl (zs_ra _) ?_
  refine zu_iconst d_4004_72 zi_0 ?_
  obtain ⟨k1, h⟩ := h
  obtain ⟨k2, h⟩ := h
  refine zp_4_43 (v := (0 : Int32)) rfl d_4004_73 k1 k2 ?_
  generalize e4 : zs_sI S 4011 p0 (0 : Int32) = S3
  have h := h S3 e4.symm
  have K5 : ∀ b, zs_K S3 b = zs_K S b := zs_Kt e4 (zs_KsI _ _ _ _) (fun _ => rfl)
  refine zu_aload_n d_4004_76 rfl (zs_ra _) ?_
  refine zu_iconst d_4004_77 zi_0 ?_
  refine zp_4_197 (v := (0 : Int32)) rfl d_4004_78 ((K5 _).trans k1) k2 ?_
  generalize e7 : zs_sI S3 4012 p0 (0 : Int32) = S6
  have h := h S6 e7.symm
  have K8 : ∀ b, zs_K S6 b = zs_K S b := zs_Kt e7 (zs_KsI _ _ _ _) K5
  refine zu_aload_n d_4004_81 rfl (zs_ra _) ?_
  refine zu_stk d_4004_82 rfl rfl ?_
  refine zp_4_200 (v := none) rfl d_4004_83 ((K8 _).trans k1) k2 ?_
  generalize e10 : zs_sR S6 4016 p0 none = S9
  have h := h S9 e10.symm
  have K11 : ∀ b, zs_K S9 b = zs_K S b := zs_Kt e10 (zs_KsR _ _ _ _) K8
  refine zu_aload_n d_4004_86 rfl (zs_ra _) ?_
  refine zu_iconst d_4004_87 zi_0 ?_
  refine zp_4_203 (v := (0 : Int32)) rfl d_4004_88 ((K11 _).trans k1) k2 (Or.inl rfl) ?_
  generalize e13 : zs_sI S9 4017 p0 (0 : Int32) = S12
  have h := h S12 e13.symm
  have K14 : ∀ b, zs_K S12 b = zs_K S b := zs_Kt e13 (zs_KsI _ _ _ _) K11
  refine zu_aload_n d_4004_91 rfl (zs_ra _) ?_
  refine zg_4_5 rfl d_4004_92 ((K14 _).trans k1) ?_
  refine zu_aload_n d_4004_95 rfl (zs_rr _) ?_
  refine zu_iload_n d_4004_96 rfl ?_
  obtain ⟨b15, e16, h⟩ := h
  refine zs_stk2 (zs_rfe e16) ?_
  obtain ⟨k17, h⟩ := h
  refine zc_4_206 (x0 := p1) (x1 := p2) hB rfl ((K14 _).trans k17) d_4004_97 (Nat.le_of_ble_eq_true rfl) h (fun S18 h => ?_)
  exact (u_X5_read_100 hB h).weak ⟨rfl, trivial⟩
def w_X5_read_11 (X : zs_X) (d : Nat) (p0 : Nat) (p1 : Option Nat) (p2 : Int32) (S : zs_T) (Q : zs_Q) : Prop :=
  (zs_K S p0 = some (.inl 4) ∧ ∃ b2, (zs_R S 4008 p0) = some b2 ∧ zs_K S b2 = some (.inl 16) ∧ zs_C X d 16001 [.ref b2] S (zs_kI (fun v6 S5 => (zs_K S5 p0 = some (.inl 4) ∧ ((v6 ≤ (zs_I S5 4020 p0) → (∃ b9, (zs_R S5 4013 p0) = some b9 ∧ zs_K S5 b9 = some (.inl 16) ∧ zs_C X d 16006 [.ref b9] S5 (zs_kV (fun S12 => (zs_K S12 p0 = some (.inl 4) ∧ ∃ b15, (zs_R S12 4014 p0) = some b15 ∧ zs_K S12 b15 = some (.inl 16) ∧ zs_C X d 16006 [.ref b15] S12 (zs_kV (fun S18 => (zs_K S18 p0 = some (.inl 4) ∧ ∃ b21, (zs_R S18 4015 p0) = some b21 ∧ zs_K S18 b21 = some (.inl 16) ∧ zs_C X d 16006 [.ref b21] S18 (zs_kV (fun S24 => (zs_K S24 p0 = some (.inl 4) ∧ ab_n0 X.1 ≤ p0 ∧ ∀ S28, S28 = zs_sI S24 4009 p0 (0 : Int32) → w_X5_read_71 X d p0 p1 p2 S28 Q)) Q))) Q))) Q))) ∧ (¬ (v6 ≤ (zs_I S5 4020 p0)) → (∃ b31, (zs_R S5 4008 p0) = some b31 ∧ zs_K S5 b31 = some (.inl 16) ∧ zs_C X d 16001 [.ref b31] S5 (zs_kI (fun v35 S34 => (zs_K S34 b31 = some (.inl 16) ∧ zs_C X d 16007 [.ref b31, .int (v35 - (1 : Int32))] S34 (zs_kR (fun v38 S37 => (zs_U X d 4004 11 [(0, .ref p0), (1, va_rf p1), (2, .int p2)] [] S37 Q)) Q))) Q)))))) Q))
theorem u_X5_read_11 {σ : Nat → Nat} {n0 : Nat} {bf : ab_B} {d : Nat} {p0 : Nat} {p1 : Option Nat} {p2 : Int32} {S : zs_T} {Q : zs_Q} (hB : zt_B bf) (h : w_X5_read_11 (zx σ n0 bf) d p0 p1 p2 S Q) : zs_U (zx σ n0 bf) d 4004 11 [(0, .ref p0), (1, va_rf p1), (2, .int p2)] [] S Q := by
  unfold w_X5_read_11 at h
  refine zu_aload_n d_4004_11 rfl (zs_ra _) ?_
  obtain ⟨k1, h⟩ := h
  refine zg_4_46 rfl d_4004_12 k1 ?_
  obtain ⟨b2, e3, h⟩ := h
  refine zs_stk0 (zs_rfe e3) ?_
  obtain ⟨k4, h⟩ := h
  refine zc_4_50  hB rfl k4 d_4004_15 (Nat.le_of_ble_eq_true rfl) h (fun v6 S5 h => ?_)
  refine zu_aload_n d_4004_18 rfl (zs_ra _) ?_
  obtain ⟨k7, h⟩ := h
  refine zg_4_180 rfl d_4004_19 k7 ?_
  refine zu_cmple (t := 45) d_4004_22 rfl (fun c8 => ?_) (fun c8 => ?_)
  · have h := h.1 c8
    refine zu_aload_n d_4004_45 rfl (zs_ra _) ?_
    refine zg_4_186 rfl d_4004_46 k7 ?_
    obtain ⟨b9, e10, h⟩ := h
    refine zs_stk0 (zs_rfe e10) ?_
    obtain ⟨k11, h⟩ := h
    refine zc_4_189  hB rfl k11 d_4004_49 (Nat.le_of_ble_eq_true rfl) h (fun S12 h => ?_)
    refine zu_aload_n d_4004_52 rfl (zs_ra _) ?_
    obtain ⟨k14, h⟩ := h
    refine zg_4_191 rfl d_4004_53 k14 ?_
    obtain ⟨b15, e16, h⟩ := h
    refine zs_stk0 (zs_rfe e16) ?_
    obtain ⟨k17, h⟩ := h
    refine zc_4_189  hB rfl k17 d_4004_56 (Nat.le_of_ble_eq_true rfl) h (fun S18 h => ?_)
    refine zu_aload_n d_4004_59 rfl (zs_ra _) ?_
    obtain ⟨k20, h⟩ := h
    refine zg_4_194 rfl d_4004_60 k20 ?_
    obtain ⟨b21, e22, h⟩ := h
    refine zs_stk0 (zs_rfe e22) ?_
    obtain ⟨k23, h⟩ := h
    refine zc_4_189  hB rfl k23 d_4004_63 (Nat.le_of_ble_eq_true rfl) h (fun S24 h => ?_)
    refine zu_aload_n d_4004_66 rfl (zs_ra _) ?_
    refine zu_iconst d_4004_67 zi_0 ?_
    obtain ⟨k26, h⟩ := h
    obtain ⟨k27, h⟩ := h
    refine zp_4_115 (v := (0 : Int32)) rfl d_4004_68 k26 k27 ?_
    generalize e29 : zs_sI S24 4009 p0 (0 : Int32) = S28
    have h := h S28 e29.symm
    have K30 : ∀ b, zs_K S28 b = zs_K S24 b := zs_Kt e29 (zs_KsI _ _ _ _) (fun _ => rfl)
    exact (u_X5_read_71 hB h).weak ⟨rfl, rfl, rfl, trivial⟩
  · have h := h.2 c8
    refine zu_aload_n d_4004_25 rfl (zs_ra _) ?_
    refine zg_4_46 rfl d_4004_26 k7 ?_
    refine zu_aload_n d_4004_29 rfl (zs_ra _) ?_
    refine zg_4_46 rfl d_4004_30 k7 ?_
    obtain ⟨b31, e32, h⟩ := h
    refine zs_stk0 (zs_rfe e32) ?_
    obtain ⟨k33, h⟩ := h
    refine zc_4_50  hB rfl k33 d_4004_33 (by simp only [List.map_cons, List.map_nil, List.sum_cons, List.sum_nil, zs_cat, zs_cI, zs_cJ, zs_cA]; exact Nat.le_of_ble_eq_true rfl) h (fun v35 S34 h => ?_)
    refine zu_iconst d_4004_36 zi_1 ?_
    refine zu_stk d_4004_37 rfl rfl ?_
    refine zs_stk1 (zs_rfe e32) ?_
    obtain ⟨k36, h⟩ := h
    refine zc_4_183 (x0 := (v35 - (1 : Int32))) hB rfl k36 d_4004_38 (Nat.le_of_ble_eq_true rfl) h (fun v38 S37 h => ?_)
    refine zu_pop d_4004_41 (zs_cat _) ?_
    refine zu_goto (t := 11) d_4004_42 rfl ?_
    exact h.weak ⟨rfl, rfl, rfl, trivial⟩
def w_X5_read (X : zs_X) (d : Nat) (p0 : Nat) (p1 : Option Nat) (p2 : Int32) (S : zs_T) (Q : zs_Q) : Prop :=
  (zs_K S p0 = some (.inl 4) ∧ ∃ b2, (zs_R S 4001 p0) = some b2 ∧ zs_K S b2 = some (.inl 3) ∧ zs_C X d 3001 [.ref b2, .int (zs_I S 4019 p0)] S (zs_kV (fun S5 => zs_U X d 4004 11 [(0, .ref p0), (1, va_rf p1), (2, .int p2)] [] S5 Q) Q))
theorem u_X5_read {σ : Nat → Nat} {n0 : Nat} {bf : ab_B} {d : Nat} {p0 : Nat} {p1 : Option Nat} {p2 : Int32} {S : zs_T} {Q : zs_Q} (hB : zt_B bf) (hd : 1 ≤ d) (h : w_X5_read (zx σ n0 bf) (d - 1) p0 p1 p2 S Q) : zs_C (zx σ n0 bf) d 4004 [.ref p0, va_rf p1, .int p2] S Q := by
  have hL : lv_args 0 [.ref p0, va_rf p1, .int p2] = [(0, .ref p0), (1, va_rf p1), (2, .int p2)] := by simp [lv_args, zs_cat, zs_cI, zs_cJ, zs_cA]
  refine zs_C.of1 (hB.2 4004 (by decide) (by decide)) hd (by rw [hL]; exact zs_sub_self _ (by exact ⟨rfl, rfl, rfl, trivial⟩)) ?_
  rw [hL]
  clear hL
  unfold w_X5_read at h
  refine zu_aload_n d_4004_0 rfl (zs_ra _) ?_
  obtain ⟨k1, h⟩ := h
  refine zg_4_128 rfl d_4004_1 k1 ?_
  refine zu_aload_n d_4004_4 rfl (zs_ra _) ?_
  refine zg_4_174 rfl d_4004_5 k1 ?_
  obtain ⟨b2, e3, h⟩ := h
  refine zs_stk1 (zs_rfe e3) ?_
  obtain ⟨k4, h⟩ := h
  refine zc_4_177 (x0 := (zs_I S 4019 p0)) hB rfl k4 d_4004_8 (Nat.le_of_ble_eq_true rfl) h (fun S5 h => ?_)
  exact h.weak ⟨rfl, rfl, rfl, trivial⟩
/-! SchemaPascal$Reader.wantKept(I)V -/
theorem zm_4005 {σ : Nat → Nat} {n0 : Nat} {bf : ab_B} : ab_code (zx σ n0 bf).1 4005 = prog_9_method_3_code := rfl
theorem zq_4005 {σ : Nat → Nat} {n0 : Nat} {bf : ab_B} : ab_maxL (zx σ n0 bf).1 4005 = 2 := rfl
theorem zr_4005 {σ : Nat → Nat} {n0 : Nat} {bf : ab_B} : ab_ret (zx σ n0 bf).1 4005 = (Option.none : Option Jvm.ClassFile.FieldType) := rfl
theorem d_4005_0 {σ : Nat → Nat} {n0 : Nat} {bf : ab_B} : decode (ab_code (zx σ n0 bf).1 4005) 0 = .ok (.aload_n 0, 1) := zd zm_4005 (by decide +kernel)
theorem d_4005_1 {σ : Nat → Nat} {n0 : Nat} {bf : ab_B} : decode (ab_code (zx σ n0 bf).1 4005) 1 = .ok (.getfield 5, 3) := zd zm_4005 (by decide +kernel)
theorem d_4005_4 {σ : Nat → Nat} {n0 : Nat} {bf : ab_B} : decode (ab_code (zx σ n0 bf).1 4005) 4 = .ok (.iload_n 1, 1) := zd zm_4005 (by decide +kernel)
theorem d_4005_5 {σ : Nat → Nat} {n0 : Nat} {bf : ab_B} : decode (ab_code (zx σ n0 bf).1 4005) 5 = .ok (.invokevirtual 33, 3) := zd zm_4005 (by decide +kernel)
theorem d_4005_8 {σ : Nat → Nat} {n0 : Nat} {bf : ab_B} : decode (ab_code (zx σ n0 bf).1 4005) 8 = .ok (.ifCond .ne 9, 3) := zd zm_4005 (by decide +kernel)
theorem d_4005_11 {σ : Nat → Nat} {n0 : Nat} {bf : ab_B} : decode (ab_code (zx σ n0 bf).1 4005) 11 = .ok (.aload_n 0, 1) := zd zm_4005 (by decide +kernel)
theorem d_4005_12 {σ : Nat → Nat} {n0 : Nat} {bf : ab_B} : decode (ab_code (zx σ n0 bf).1 4005) 12 = .ok (.iconst 2, 1) := zd zm_4005 (by decide +kernel)
theorem d_4005_13 {σ : Nat → Nat} {n0 : Nat} {bf : ab_B} : decode (ab_code (zx σ n0 bf).1 4005) 13 = .ok (.invokevirtual 25, 3) := zd zm_4005 (by decide +kernel)
theorem d_4005_16 {σ : Nat → Nat} {n0 : Nat} {bf : ab_B} : decode (ab_code (zx σ n0 bf).1 4005) 16 = .ok (.athrow, 1) := zd zm_4005 (by decide +kernel)
theorem d_4005_17 {σ : Nat → Nat} {n0 : Nat} {bf : ab_B} : decode (ab_code (zx σ n0 bf).1 4005) 17 = .ok (.aload_n 0, 1) := zd zm_4005 (by decide +kernel)
theorem d_4005_18 {σ : Nat → Nat} {n0 : Nat} {bf : ab_B} : decode (ab_code (zx σ n0 bf).1 4005) 18 = .ok (.getfield 5, 3) := zd zm_4005 (by decide +kernel)
theorem d_4005_21 {σ : Nat → Nat} {n0 : Nat} {bf : ab_B} : decode (ab_code (zx σ n0 bf).1 4005) 21 = .ok (.invokevirtual 29, 3) := zd zm_4005 (by decide +kernel)
theorem d_4005_24 {σ : Nat → Nat} {n0 : Nat} {bf : ab_B} : decode (ab_code (zx σ n0 bf).1 4005) 24 = .ok (.return_, 1) := zd zm_4005 (by decide +kernel)
def w_X5_wantKept (X : zs_X) (d : Nat) (p0 : Nat) (p1 : Int32) (S : zs_T) (Q : zs_Q) : Prop :=
  (zs_K S p0 = some (.inl 4) ∧ ∃ b2, (zs_R S 4000 p0) = some b2 ∧ zs_K S b2 = some (.inl 5) ∧ zs_C X d 5015 [.ref b2, .int p1] S (zs_kI (fun v6 S5 => (((¬ v6 = 0 → (zs_K S5 p0 = some (.inl 4) ∧ ∃ b9, (zs_R S5 4000 p0) = some b9 ∧ zs_K S5 b9 = some (.inl 5) ∧ zs_C X d 5004 [.ref b9] S5 (zs_kV (fun S12 => (Q (.returned none) S12)) Q))) ∧ (¬ (¬ v6 = 0) → (zs_K S5 p0 = some (.inl 4) ∧ zs_C X d 4006 [.ref p0, .int (2 : Int32)] S5 (zs_kR (fun v16 S15 => (∃ b17, v16 = some b17 ∧ Q (.threw b17) S15)) Q)))))) Q))
theorem u_X5_wantKept {σ : Nat → Nat} {n0 : Nat} {bf : ab_B} {d : Nat} {p0 : Nat} {p1 : Int32} {S : zs_T} {Q : zs_Q} (hB : zt_B bf) (hd : 1 ≤ d) (h : w_X5_wantKept (zx σ n0 bf) (d - 1) p0 p1 S Q) : zs_C (zx σ n0 bf) d 4005 [.ref p0, .int p1] S Q := by
  have hL : lv_args 0 [.ref p0, .int p1] = [(0, .ref p0), (1, .int p1)] := rfl
  refine zs_C.of1 (hB.2 4005 (by decide) (by decide)) hd (by rw [hL]; exact zs_sub_self _ (by exact ⟨rfl, rfl, trivial⟩)) ?_
  rw [hL]
  clear hL
  unfold w_X5_wantKept at h
  refine zu_aload_n d_4005_0 rfl (zs_ra _) ?_
  obtain ⟨k1, h⟩ := h
  refine zg_4_5 rfl d_4005_1 k1 ?_
  refine zu_iload_n d_4005_4 rfl ?_
  obtain ⟨b2, e3, h⟩ := h
  refine zs_stk1 (zs_rfe e3) ?_
  obtain ⟨k4, h⟩ := h
  refine zc_4_33 (x0 := p1) hB rfl k4 d_4005_5 (Nat.le_of_ble_eq_true rfl) h (fun v6 S5 h => ?_)
  refine zu_ifne (t := 17) d_4005_8 rfl (fun c7 => ?_) (fun c7 => ?_)
  · have h := h.1 c7
    refine zu_aload_n d_4005_17 rfl (zs_ra _) ?_
    obtain ⟨k8, h⟩ := h
    refine zg_4_5 rfl d_4005_18 k8 ?_
    obtain ⟨b9, e10, h⟩ := h
    refine zs_stk0 (zs_rfe e10) ?_
    obtain ⟨k11, h⟩ := h
    refine zc_4_29  hB rfl k11 d_4005_21 (Nat.le_of_ble_eq_true rfl) h (fun S12 h => ?_)
    exact zu_vret d_4005_24 zr_4005 h
  · have h := h.2 c7
    refine zu_aload_n d_4005_11 rfl (zs_ra _) ?_
    refine zu_iconst d_4005_12 zi_2 ?_
    obtain ⟨k14, h⟩ := h
    refine zc_4_25 (x0 := (2 : Int32)) hB rfl k14 d_4005_13 (Nat.le_of_ble_eq_true rfl) h (fun v16 S15 h => ?_)
    obtain ⟨b17, e18, h⟩ := h
    refine zs_stk0 (zs_rfe e18) ?_
    exact zu_throw d_4005_16 h
/-! SchemaPascal$Reader.fault(I)LSchemaPascal$Fault; -/
theorem zm_4006 {σ : Nat → Nat} {n0 : Nat} {bf : ab_B} : ab_code (zx σ n0 bf).1 4006 = prog_9_method_1_code := rfl
theorem zq_4006 {σ : Nat → Nat} {n0 : Nat} {bf : ab_B} : ab_maxL (zx σ n0 bf).1 4006 = 2 := rfl
theorem zr_4006 {σ : Nat → Nat} {n0 : Nat} {bf : ab_B} : ab_ret (zx σ n0 bf).1 4006 = (Option.some (Jvm.ClassFile.FieldType.object "SchemaPascal$Fault")) := rfl
theorem d_4006_0 {σ : Nat → Nat} {n0 : Nat} {bf : ab_B} : decode (ab_code (zx σ n0 bf).1 4006) 0 = .ok (.new 3, 3) := zd zm_4006 (by decide +kernel)
theorem d_4006_3 {σ : Nat → Nat} {n0 : Nat} {bf : ab_B} : decode (ab_code (zx σ n0 bf).1 4006) 3 = .ok (.dup, 1) := zd zm_4006 (by decide +kernel)
theorem d_4006_4 {σ : Nat → Nat} {n0 : Nat} {bf : ab_B} : decode (ab_code (zx σ n0 bf).1 4006) 4 = .ok (.iload_n 1, 1) := zd zm_4006 (by decide +kernel)
theorem d_4006_5 {σ : Nat → Nat} {n0 : Nat} {bf : ab_B} : decode (ab_code (zx σ n0 bf).1 4006) 5 = .ok (.aload_n 0, 1) := zd zm_4006 (by decide +kernel)
theorem d_4006_6 {σ : Nat → Nat} {n0 : Nat} {bf : ab_B} : decode (ab_code (zx σ n0 bf).1 4006) 6 = .ok (.getfield 5, 3) := zd zm_4006 (by decide +kernel)
theorem d_4006_9 {σ : Nat → Nat} {n0 : Nat} {bf : ab_B} : decode (ab_code (zx σ n0 bf).1 4006) 9 = .ok (.getfield 11, 3) := zd zm_4006 (by decide +kernel)
theorem d_4006_12 {σ : Nat → Nat} {n0 : Nat} {bf : ab_B} : decode (ab_code (zx σ n0 bf).1 4006) 12 = .ok (.invokespecial 17, 3) := zd zm_4006 (by decide +kernel)
theorem d_4006_15 {σ : Nat → Nat} {n0 : Nat} {bf : ab_B} : decode (ab_code (zx σ n0 bf).1 4006) 15 = .ok (.areturn, 1) := zd zm_4006 (by decide +kernel)
def w_X5_fault (X : zs_X) (d : Nat) (p0 : Nat) (p1 : Int32) (S : zs_T) (Q : zs_Q) : Prop :=
  (∀ a1 S2, a1 = zs_N S → S2 = zs_nw S (.inl 9) 8 → zs_K S2 p0 = some (.inl 4) ∧ ∃ b7, (zs_R S2 4000 p0) = some b7 ∧ zs_K S2 b7 = some (.inl 5) ∧ zs_C X d 9000 [.ref a1, .int p1, .int (zs_I S2 5005 b7)] S2 (zs_kV (fun S10 => (Q (.returned (some (.ref a1))) S10)) Q))
theorem u_X5_fault {σ : Nat → Nat} {n0 : Nat} {bf : ab_B} {d : Nat} {p0 : Nat} {p1 : Int32} {S : zs_T} {Q : zs_Q} (hB : zt_B bf) (hd : 1 ≤ d) (h : w_X5_fault (zx σ n0 bf) (d - 1) p0 p1 S Q) : zs_C (zx σ n0 bf) d 4006 [.ref p0, .int p1] S Q := by
  have hL : lv_args 0 [.ref p0, .int p1] = [(0, .ref p0), (1, .int p1)] := rfl
  refine zs_C.of1 (hB.2 4006 (by decide) (by decide)) hd (by rw [hL]; exact zs_sub_self _ (by exact ⟨rfl, rfl, trivial⟩)) ?_
  rw [hL]
  clear hL
  unfold w_X5_fault at h
  refine zn_4_3 rfl d_4006_0 ?_
  generalize e4 : zs_nw S (.inl 9) 8 = S2
  generalize e3 : zs_N S = a1
  have h := h a1 S2 e3.symm e4.symm
  have k5 := zs_kn e3 e4
  refine zu_dup d_4006_3 rfl ?_
  refine zu_iload_n d_4006_4 rfl ?_
  refine zu_aload_n d_4006_5 rfl (zs_ra _) ?_
  obtain ⟨k6, h⟩ := h
  refine zg_4_5 rfl d_4006_6 k6 ?_
  obtain ⟨b7, e8, h⟩ := h
  refine zs_stk0 (zs_rfe e8) ?_
  obtain ⟨k9, h⟩ := h
  refine zg_4_11 rfl d_4006_9 k9 ?_
  refine zc_4_17 (x0 := p1) (x1 := (zs_I S2 5005 b7)) hB rfl d_4006_12 (Nat.le_of_ble_eq_true rfl) h (fun S10 h => ?_)
  exact zu_aret d_4006_15 zr_4006 (zs_ra _) h
/-! SchemaPascal$Reader.wantName()I -/
theorem zm_4007 {σ : Nat → Nat} {n0 : Nat} {bf : ab_B} : ab_code (zx σ n0 bf).1 4007 = prog_9_method_4_code := rfl
theorem zq_4007 {σ : Nat → Nat} {n0 : Nat} {bf : ab_B} : ab_maxL (zx σ n0 bf).1 4007 = 2 := rfl
theorem zr_4007 {σ : Nat → Nat} {n0 : Nat} {bf : ab_B} : ab_ret (zx σ n0 bf).1 4007 = (Option.some Jvm.ClassFile.FieldType.int) := rfl
theorem d_4007_0 {σ : Nat → Nat} {n0 : Nat} {bf : ab_B} : decode (ab_code (zx σ n0 bf).1 4007) 0 = .ok (.aload_n 0, 1) := zd zm_4007 (by decide +kernel)
theorem d_4007_1 {σ : Nat → Nat} {n0 : Nat} {bf : ab_B} : decode (ab_code (zx σ n0 bf).1 4007) 1 = .ok (.getfield 5, 3) := zd zm_4007 (by decide +kernel)
theorem d_4007_4 {σ : Nat → Nat} {n0 : Nat} {bf : ab_B} : decode (ab_code (zx σ n0 bf).1 4007) 4 = .ok (.invokevirtual 36, 3) := zd zm_4007 (by decide +kernel)
theorem d_4007_7 {σ : Nat → Nat} {n0 : Nat} {bf : ab_B} : decode (ab_code (zx σ n0 bf).1 4007) 7 = .ok (.ifCond .ne 9, 3) := zd zm_4007 (by decide +kernel)
theorem d_4007_10 {σ : Nat → Nat} {n0 : Nat} {bf : ab_B} : decode (ab_code (zx σ n0 bf).1 4007) 10 = .ok (.aload_n 0, 1) := zd zm_4007 (by decide +kernel)
theorem d_4007_11 {σ : Nat → Nat} {n0 : Nat} {bf : ab_B} : decode (ab_code (zx σ n0 bf).1 4007) 11 = .ok (.iconst 2, 1) := zd zm_4007 (by decide +kernel)
theorem d_4007_12 {σ : Nat → Nat} {n0 : Nat} {bf : ab_B} : decode (ab_code (zx σ n0 bf).1 4007) 12 = .ok (.invokevirtual 25, 3) := zd zm_4007 (by decide +kernel)
theorem d_4007_15 {σ : Nat → Nat} {n0 : Nat} {bf : ab_B} : decode (ab_code (zx σ n0 bf).1 4007) 15 = .ok (.athrow, 1) := zd zm_4007 (by decide +kernel)
theorem d_4007_16 {σ : Nat → Nat} {n0 : Nat} {bf : ab_B} : decode (ab_code (zx σ n0 bf).1 4007) 16 = .ok (.aload_n 0, 1) := zd zm_4007 (by decide +kernel)
theorem d_4007_17 {σ : Nat → Nat} {n0 : Nat} {bf : ab_B} : decode (ab_code (zx σ n0 bf).1 4007) 17 = .ok (.getfield 5, 3) := zd zm_4007 (by decide +kernel)
theorem d_4007_20 {σ : Nat → Nat} {n0 : Nat} {bf : ab_B} : decode (ab_code (zx σ n0 bf).1 4007) 20 = .ok (.getfield 40, 3) := zd zm_4007 (by decide +kernel)
theorem d_4007_23 {σ : Nat → Nat} {n0 : Nat} {bf : ab_B} : decode (ab_code (zx σ n0 bf).1 4007) 23 = .ok (.istore_n 1, 1) := zd zm_4007 (by decide +kernel)
theorem d_4007_24 {σ : Nat → Nat} {n0 : Nat} {bf : ab_B} : decode (ab_code (zx σ n0 bf).1 4007) 24 = .ok (.aload_n 0, 1) := zd zm_4007 (by decide +kernel)
theorem d_4007_25 {σ : Nat → Nat} {n0 : Nat} {bf : ab_B} : decode (ab_code (zx σ n0 bf).1 4007) 25 = .ok (.getfield 5, 3) := zd zm_4007 (by decide +kernel)
theorem d_4007_28 {σ : Nat → Nat} {n0 : Nat} {bf : ab_B} : decode (ab_code (zx σ n0 bf).1 4007) 28 = .ok (.invokevirtual 29, 3) := zd zm_4007 (by decide +kernel)
theorem d_4007_31 {σ : Nat → Nat} {n0 : Nat} {bf : ab_B} : decode (ab_code (zx σ n0 bf).1 4007) 31 = .ok (.iload_n 1, 1) := zd zm_4007 (by decide +kernel)
theorem d_4007_32 {σ : Nat → Nat} {n0 : Nat} {bf : ab_B} : decode (ab_code (zx σ n0 bf).1 4007) 32 = .ok (.ireturn, 1) := zd zm_4007 (by decide +kernel)
def w_X5_wantName (X : zs_X) (d : Nat) (p0 : Nat) (S : zs_T) (Q : zs_Q) : Prop :=
  (zs_K S p0 = some (.inl 4) ∧ ∃ b2, (zs_R S 4000 p0) = some b2 ∧ zs_K S b2 = some (.inl 5) ∧ zs_C X d 5016 [.ref b2] S (zs_kI (fun v6 S5 => (((¬ v6 = 0 → (zs_K S5 p0 = some (.inl 4) ∧ ∃ b9, (zs_R S5 4000 p0) = some b9 ∧ zs_K S5 b9 = some (.inl 5) ∧ zs_C X d 5004 [.ref b9] S5 (zs_kV (fun S12 => (Q (.returned (some (.int (zs_I S5 5004 b9)))) S12)) Q))) ∧ (¬ (¬ v6 = 0) → (zs_K S5 p0 = some (.inl 4) ∧ zs_C X d 4006 [.ref p0, .int (2 : Int32)] S5 (zs_kR (fun v16 S15 => (∃ b17, v16 = some b17 ∧ Q (.threw b17) S15)) Q)))))) Q))
theorem u_X5_wantName {σ : Nat → Nat} {n0 : Nat} {bf : ab_B} {d : Nat} {p0 : Nat} {S : zs_T} {Q : zs_Q} (hB : zt_B bf) (hd : 1 ≤ d) (h : w_X5_wantName (zx σ n0 bf) (d - 1) p0 S Q) : zs_C (zx σ n0 bf) d 4007 [.ref p0] S Q := by
  have hL : lv_args 0 [.ref p0] = [(0, .ref p0)] := rfl
  refine zs_C.of1 (hB.2 4007 (by decide) (by decide)) hd (by rw [hL]; exact zs_sub_self _ (by exact ⟨rfl, trivial⟩)) ?_
  rw [hL]
  clear hL
  unfold w_X5_wantName at h
  refine zu_aload_n d_4007_0 rfl (zs_ra _) ?_
  obtain ⟨k1, h⟩ := h
  refine zg_4_5 rfl d_4007_1 k1 ?_
  obtain ⟨b2, e3, h⟩ := h
  refine zs_stk0 (zs_rfe e3) ?_
  obtain ⟨k4, h⟩ := h
  refine zc_4_36  hB rfl k4 d_4007_4 (Nat.le_of_ble_eq_true rfl) h (fun v6 S5 h => ?_)
  refine zu_ifne (t := 16) d_4007_7 rfl (fun c7 => ?_) (fun c7 => ?_)
  · have h := h.1 c7
    refine zu_aload_n d_4007_16 rfl (zs_ra _) ?_
    obtain ⟨k8, h⟩ := h
    refine zg_4_5 rfl d_4007_17 k8 ?_
    obtain ⟨b9, e10, h⟩ := h
    refine zs_stk0 (zs_rfe e10) ?_
    obtain ⟨k11, h⟩ := h
    refine zg_4_40 rfl d_4007_20 k11 ?_
    refine zu_istore_n d_4007_23 (zs_lt zq_4007 rfl) ?_
    refine zu_aload_n d_4007_24 rfl (zs_ra _) ?_
    refine zg_4_5 rfl d_4007_25 k8 ?_
    refine zs_stk0 (zs_rfe e10) ?_
    refine zc_4_29  hB rfl k11 d_4007_28 (Nat.le_of_ble_eq_true rfl) h (fun S12 h => ?_)
    refine zu_iload_n d_4007_31 rfl ?_
    exact zu_iret d_4007_32 zr_4007 rfl h
  · have h := h.2 c7
    refine zu_aload_n d_4007_10 rfl (zs_ra _) ?_
    refine zu_iconst d_4007_11 zi_2 ?_
    obtain ⟨k14, h⟩ := h
    refine zc_4_25 (x0 := (2 : Int32)) hB rfl k14 d_4007_12 (Nat.le_of_ble_eq_true rfl) h (fun v16 S15 h => ?_)
    obtain ⟨b17, e18, h⟩ := h
    refine zs_stk0 (zs_rfe e18) ?_
    exact zu_throw d_4007_15 h
/-! SchemaPascal$Reader.want(I)V -/
theorem zm_4008 {σ : Nat → Nat} {n0 : Nat} {bf : ab_B} : ab_code (zx σ n0 bf).1 4008 = prog_9_method_2_code := rfl
theorem zq_4008 {σ : Nat → Nat} {n0 : Nat} {bf : ab_B} : ab_maxL (zx σ n0 bf).1 4008 = 2 := rfl
theorem zr_4008 {σ : Nat → Nat} {n0 : Nat} {bf : ab_B} : ab_ret (zx σ n0 bf).1 4008 = (Option.none : Option Jvm.ClassFile.FieldType) := rfl
theorem d_4008_0 {σ : Nat → Nat} {n0 : Nat} {bf : ab_B} : decode (ab_code (zx σ n0 bf).1 4008) 0 = .ok (.aload_n 0, 1) := zd zm_4008 (by decide +kernel)
theorem d_4008_1 {σ : Nat → Nat} {n0 : Nat} {bf : ab_B} : decode (ab_code (zx σ n0 bf).1 4008) 1 = .ok (.getfield 5, 3) := zd zm_4008 (by decide +kernel)
theorem d_4008_4 {σ : Nat → Nat} {n0 : Nat} {bf : ab_B} : decode (ab_code (zx σ n0 bf).1 4008) 4 = .ok (.iload_n 1, 1) := zd zm_4008 (by decide +kernel)
theorem d_4008_5 {σ : Nat → Nat} {n0 : Nat} {bf : ab_B} : decode (ab_code (zx σ n0 bf).1 4008) 5 = .ok (.invokevirtual 21, 3) := zd zm_4008 (by decide +kernel)
theorem d_4008_8 {σ : Nat → Nat} {n0 : Nat} {bf : ab_B} : decode (ab_code (zx σ n0 bf).1 4008) 8 = .ok (.ifCond .ne 9, 3) := zd zm_4008 (by decide +kernel)
theorem d_4008_11 {σ : Nat → Nat} {n0 : Nat} {bf : ab_B} : decode (ab_code (zx σ n0 bf).1 4008) 11 = .ok (.aload_n 0, 1) := zd zm_4008 (by decide +kernel)
theorem d_4008_12 {σ : Nat → Nat} {n0 : Nat} {bf : ab_B} : decode (ab_code (zx σ n0 bf).1 4008) 12 = .ok (.iconst 2, 1) := zd zm_4008 (by decide +kernel)
theorem d_4008_13 {σ : Nat → Nat} {n0 : Nat} {bf : ab_B} : decode (ab_code (zx σ n0 bf).1 4008) 13 = .ok (.invokevirtual 25, 3) := zd zm_4008 (by decide +kernel)
theorem d_4008_16 {σ : Nat → Nat} {n0 : Nat} {bf : ab_B} : decode (ab_code (zx σ n0 bf).1 4008) 16 = .ok (.athrow, 1) := zd zm_4008 (by decide +kernel)
theorem d_4008_17 {σ : Nat → Nat} {n0 : Nat} {bf : ab_B} : decode (ab_code (zx σ n0 bf).1 4008) 17 = .ok (.aload_n 0, 1) := zd zm_4008 (by decide +kernel)
theorem d_4008_18 {σ : Nat → Nat} {n0 : Nat} {bf : ab_B} : decode (ab_code (zx σ n0 bf).1 4008) 18 = .ok (.getfield 5, 3) := zd zm_4008 (by decide +kernel)
theorem d_4008_21 {σ : Nat → Nat} {n0 : Nat} {bf : ab_B} : decode (ab_code (zx σ n0 bf).1 4008) 21 = .ok (.invokevirtual 29, 3) := zd zm_4008 (by decide +kernel)
theorem d_4008_24 {σ : Nat → Nat} {n0 : Nat} {bf : ab_B} : decode (ab_code (zx σ n0 bf).1 4008) 24 = .ok (.return_, 1) := zd zm_4008 (by decide +kernel)
def w_X5_want (X : zs_X) (d : Nat) (p0 : Nat) (p1 : Int32) (S : zs_T) (Q : zs_Q) : Prop :=
  (zs_K S p0 = some (.inl 4) ∧ ∃ b2, (zs_R S 4000 p0) = some b2 ∧ zs_K S b2 = some (.inl 5) ∧ zs_C X d 5017 [.ref b2, .int p1] S (zs_kI (fun v6 S5 => (((¬ v6 = 0 → (zs_K S5 p0 = some (.inl 4) ∧ ∃ b9, (zs_R S5 4000 p0) = some b9 ∧ zs_K S5 b9 = some (.inl 5) ∧ zs_C X d 5004 [.ref b9] S5 (zs_kV (fun S12 => (Q (.returned none) S12)) Q))) ∧ (¬ (¬ v6 = 0) → (zs_K S5 p0 = some (.inl 4) ∧ zs_C X d 4006 [.ref p0, .int (2 : Int32)] S5 (zs_kR (fun v16 S15 => (∃ b17, v16 = some b17 ∧ Q (.threw b17) S15)) Q)))))) Q))
theorem u_X5_want {σ : Nat → Nat} {n0 : Nat} {bf : ab_B} {d : Nat} {p0 : Nat} {p1 : Int32} {S : zs_T} {Q : zs_Q} (hB : zt_B bf) (hd : 1 ≤ d) (h : w_X5_want (zx σ n0 bf) (d - 1) p0 p1 S Q) : zs_C (zx σ n0 bf) d 4008 [.ref p0, .int p1] S Q := by
  have hL : lv_args 0 [.ref p0, .int p1] = [(0, .ref p0), (1, .int p1)] := rfl
  refine zs_C.of1 (hB.2 4008 (by decide) (by decide)) hd (by rw [hL]; exact zs_sub_self _ (by exact ⟨rfl, rfl, trivial⟩)) ?_
  rw [hL]
  clear hL
  unfold w_X5_want at h
  refine zu_aload_n d_4008_0 rfl (zs_ra _) ?_
  obtain ⟨k1, h⟩ := h
  refine zg_4_5 rfl d_4008_1 k1 ?_
  refine zu_iload_n d_4008_4 rfl ?_
  obtain ⟨b2, e3, h⟩ := h
  refine zs_stk1 (zs_rfe e3) ?_
  obtain ⟨k4, h⟩ := h
  refine zc_4_21 (x0 := p1) hB rfl k4 d_4008_5 (Nat.le_of_ble_eq_true rfl) h (fun v6 S5 h => ?_)
  refine zu_ifne (t := 17) d_4008_8 rfl (fun c7 => ?_) (fun c7 => ?_)
  · have h := h.1 c7
    refine zu_aload_n d_4008_17 rfl (zs_ra _) ?_
    obtain ⟨k8, h⟩ := h
    refine zg_4_5 rfl d_4008_18 k8 ?_
    obtain ⟨b9, e10, h⟩ := h
    refine zs_stk0 (zs_rfe e10) ?_
    obtain ⟨k11, h⟩ := h
    refine zc_4_29  hB rfl k11 d_4008_21 (Nat.le_of_ble_eq_true rfl) h (fun S12 h => ?_)
    exact zu_vret d_4008_24 zr_4008 h
  · have h := h.2 c7
    refine zu_aload_n d_4008_11 rfl (zs_ra _) ?_
    refine zu_iconst d_4008_12 zi_2 ?_
    obtain ⟨k14, h⟩ := h
    refine zc_4_25 (x0 := (2 : Int32)) hB rfl k14 d_4008_13 (Nat.le_of_ble_eq_true rfl) h (fun v16 S15 h => ?_)
    obtain ⟨b17, e18, h⟩ := h
    refine zs_stk0 (zs_rfe e18) ?_
    exact zu_throw d_4008_16 h
/-! SchemaPascal$Reader.block(LSchemaPascal$Routine;)V -/
theorem zm_4009 {σ : Nat → Nat} {n0 : Nat} {bf : ab_B} : ab_code (zx σ n0 bf).1 4009 = prog_9_method_14_code := rfl
theorem zq_4009 {σ : Nat → Nat} {n0 : Nat} {bf : ab_B} : ab_maxL (zx σ n0 bf).1 4009 = 3 := rfl
theorem zr_4009 {σ : Nat → Nat} {n0 : Nat} {bf : ab_B} : ab_ret (zx σ n0 bf).1 4009 = (Option.none : Option Jvm.ClassFile.FieldType) := rfl
theorem d_4009_0 {σ : Nat → Nat} {n0 : Nat} {bf : ab_B} : decode (ab_code (zx σ n0 bf).1 4009) 0 = .ok (.aload_n 0, 1) := zd zm_4009 (by decide +kernel)
theorem d_4009_1 {σ : Nat → Nat} {n0 : Nat} {bf : ab_B} : decode (ab_code (zx σ n0 bf).1 4009) 1 = .ok (.getfield 5, 3) := zd zm_4009 (by decide +kernel)
theorem d_4009_4 {σ : Nat → Nat} {n0 : Nat} {bf : ab_B} : decode (ab_code (zx σ n0 bf).1 4009) 4 = .ok (.bipush 7, 2) := zd zm_4009 (by decide +kernel)
theorem d_4009_6 {σ : Nat → Nat} {n0 : Nat} {bf : ab_B} : decode (ab_code (zx σ n0 bf).1 4009) 6 = .ok (.invokevirtual 33, 3) := zd zm_4009 (by decide +kernel)
theorem d_4009_9 {σ : Nat → Nat} {n0 : Nat} {bf : ab_B} : decode (ab_code (zx σ n0 bf).1 4009) 9 = .ok (.ifCond .ne 94, 3) := zd zm_4009 (by decide +kernel)
theorem d_4009_12 {σ : Nat → Nat} {n0 : Nat} {bf : ab_B} : decode (ab_code (zx σ n0 bf).1 4009) 12 = .ok (.aload_n 0, 1) := zd zm_4009 (by decide +kernel)
theorem d_4009_13 {σ : Nat → Nat} {n0 : Nat} {bf : ab_B} : decode (ab_code (zx σ n0 bf).1 4009) 13 = .ok (.getfield 5, 3) := zd zm_4009 (by decide +kernel)
theorem d_4009_16 {σ : Nat → Nat} {n0 : Nat} {bf : ab_B} : decode (ab_code (zx σ n0 bf).1 4009) 16 = .ok (.iconst 1, 1) := zd zm_4009 (by decide +kernel)
theorem d_4009_17 {σ : Nat → Nat} {n0 : Nat} {bf : ab_B} : decode (ab_code (zx σ n0 bf).1 4009) 17 = .ok (.invokevirtual 33, 3) := zd zm_4009 (by decide +kernel)
theorem d_4009_20 {σ : Nat → Nat} {n0 : Nat} {bf : ab_B} : decode (ab_code (zx σ n0 bf).1 4009) 20 = .ok (.ifCond .eq 10, 3) := zd zm_4009 (by decide +kernel)
theorem d_4009_23 {σ : Nat → Nat} {n0 : Nat} {bf : ab_B} : decode (ab_code (zx σ n0 bf).1 4009) 23 = .ok (.aload_n 0, 1) := zd zm_4009 (by decide +kernel)
theorem d_4009_24 {σ : Nat → Nat} {n0 : Nat} {bf : ab_B} : decode (ab_code (zx σ n0 bf).1 4009) 24 = .ok (.invokevirtual 232, 3) := zd zm_4009 (by decide +kernel)
theorem d_4009_27 {σ : Nat → Nat} {n0 : Nat} {bf : ab_B} : decode (ab_code (zx σ n0 bf).1 4009) 27 = .ok (.goto (-27), 3) := zd zm_4009 (by decide +kernel)
theorem d_4009_30 {σ : Nat → Nat} {n0 : Nat} {bf : ab_B} : decode (ab_code (zx σ n0 bf).1 4009) 30 = .ok (.aload_n 0, 1) := zd zm_4009 (by decide +kernel)
theorem d_4009_31 {σ : Nat → Nat} {n0 : Nat} {bf : ab_B} : decode (ab_code (zx σ n0 bf).1 4009) 31 = .ok (.getfield 5, 3) := zd zm_4009 (by decide +kernel)
theorem d_4009_34 {σ : Nat → Nat} {n0 : Nat} {bf : ab_B} : decode (ab_code (zx σ n0 bf).1 4009) 34 = .ok (.iconst 2, 1) := zd zm_4009 (by decide +kernel)
theorem d_4009_35 {σ : Nat → Nat} {n0 : Nat} {bf : ab_B} : decode (ab_code (zx σ n0 bf).1 4009) 35 = .ok (.invokevirtual 33, 3) := zd zm_4009 (by decide +kernel)
theorem d_4009_38 {σ : Nat → Nat} {n0 : Nat} {bf : ab_B} : decode (ab_code (zx σ n0 bf).1 4009) 38 = .ok (.ifCond .eq 10, 3) := zd zm_4009 (by decide +kernel)
theorem d_4009_41 {σ : Nat → Nat} {n0 : Nat} {bf : ab_B} : decode (ab_code (zx σ n0 bf).1 4009) 41 = .ok (.aload_n 0, 1) := zd zm_4009 (by decide +kernel)
theorem d_4009_42 {σ : Nat → Nat} {n0 : Nat} {bf : ab_B} : decode (ab_code (zx σ n0 bf).1 4009) 42 = .ok (.invokevirtual 235, 3) := zd zm_4009 (by decide +kernel)
theorem d_4009_45 {σ : Nat → Nat} {n0 : Nat} {bf : ab_B} : decode (ab_code (zx σ n0 bf).1 4009) 45 = .ok (.goto (-45), 3) := zd zm_4009 (by decide +kernel)
theorem d_4009_48 {σ : Nat → Nat} {n0 : Nat} {bf : ab_B} : decode (ab_code (zx σ n0 bf).1 4009) 48 = .ok (.aload_n 0, 1) := zd zm_4009 (by decide +kernel)
theorem d_4009_49 {σ : Nat → Nat} {n0 : Nat} {bf : ab_B} : decode (ab_code (zx σ n0 bf).1 4009) 49 = .ok (.getfield 5, 3) := zd zm_4009 (by decide +kernel)
theorem d_4009_52 {σ : Nat → Nat} {n0 : Nat} {bf : ab_B} : decode (ab_code (zx σ n0 bf).1 4009) 52 = .ok (.iconst 3, 1) := zd zm_4009 (by decide +kernel)
theorem d_4009_53 {σ : Nat → Nat} {n0 : Nat} {bf : ab_B} : decode (ab_code (zx σ n0 bf).1 4009) 53 = .ok (.invokevirtual 33, 3) := zd zm_4009 (by decide +kernel)
theorem d_4009_56 {σ : Nat → Nat} {n0 : Nat} {bf : ab_B} : decode (ab_code (zx σ n0 bf).1 4009) 56 = .ok (.ifCond .eq 11, 3) := zd zm_4009 (by decide +kernel)
theorem d_4009_59 {σ : Nat → Nat} {n0 : Nat} {bf : ab_B} : decode (ab_code (zx σ n0 bf).1 4009) 59 = .ok (.aload_n 0, 1) := zd zm_4009 (by decide +kernel)
theorem d_4009_60 {σ : Nat → Nat} {n0 : Nat} {bf : ab_B} : decode (ab_code (zx σ n0 bf).1 4009) 60 = .ok (.aload_n 1, 1) := zd zm_4009 (by decide +kernel)
theorem d_4009_61 {σ : Nat → Nat} {n0 : Nat} {bf : ab_B} : decode (ab_code (zx σ n0 bf).1 4009) 61 = .ok (.invokevirtual 237, 3) := zd zm_4009 (by decide +kernel)
theorem d_4009_64 {σ : Nat → Nat} {n0 : Nat} {bf : ab_B} : decode (ab_code (zx σ n0 bf).1 4009) 64 = .ok (.goto (-64), 3) := zd zm_4009 (by decide +kernel)
theorem d_4009_67 {σ : Nat → Nat} {n0 : Nat} {bf : ab_B} : decode (ab_code (zx σ n0 bf).1 4009) 67 = .ok (.aload_n 0, 1) := zd zm_4009 (by decide +kernel)
theorem d_4009_68 {σ : Nat → Nat} {n0 : Nat} {bf : ab_B} : decode (ab_code (zx σ n0 bf).1 4009) 68 = .ok (.getfield 5, 3) := zd zm_4009 (by decide +kernel)
theorem d_4009_71 {σ : Nat → Nat} {n0 : Nat} {bf : ab_B} : decode (ab_code (zx σ n0 bf).1 4009) 71 = .ok (.iconst 4, 1) := zd zm_4009 (by decide +kernel)
theorem d_4009_72 {σ : Nat → Nat} {n0 : Nat} {bf : ab_B} : decode (ab_code (zx σ n0 bf).1 4009) 72 = .ok (.invokevirtual 33, 3) := zd zm_4009 (by decide +kernel)
theorem d_4009_75 {σ : Nat → Nat} {n0 : Nat} {bf : ab_B} : decode (ab_code (zx σ n0 bf).1 4009) 75 = .ok (.ifCond .ne 14, 3) := zd zm_4009 (by decide +kernel)
theorem d_4009_78 {σ : Nat → Nat} {n0 : Nat} {bf : ab_B} : decode (ab_code (zx σ n0 bf).1 4009) 78 = .ok (.aload_n 0, 1) := zd zm_4009 (by decide +kernel)
theorem d_4009_79 {σ : Nat → Nat} {n0 : Nat} {bf : ab_B} : decode (ab_code (zx σ n0 bf).1 4009) 79 = .ok (.getfield 5, 3) := zd zm_4009 (by decide +kernel)
theorem d_4009_82 {σ : Nat → Nat} {n0 : Nat} {bf : ab_B} : decode (ab_code (zx σ n0 bf).1 4009) 82 = .ok (.iconst 5, 1) := zd zm_4009 (by decide +kernel)
theorem d_4009_83 {σ : Nat → Nat} {n0 : Nat} {bf : ab_B} : decode (ab_code (zx σ n0 bf).1 4009) 83 = .ok (.invokevirtual 33, 3) := zd zm_4009 (by decide +kernel)
theorem d_4009_86 {σ : Nat → Nat} {n0 : Nat} {bf : ab_B} : decode (ab_code (zx σ n0 bf).1 4009) 86 = .ok (.ifCond .eq 11, 3) := zd zm_4009 (by decide +kernel)
theorem d_4009_89 {σ : Nat → Nat} {n0 : Nat} {bf : ab_B} : decode (ab_code (zx σ n0 bf).1 4009) 89 = .ok (.aload_n 0, 1) := zd zm_4009 (by decide +kernel)
theorem d_4009_90 {σ : Nat → Nat} {n0 : Nat} {bf : ab_B} : decode (ab_code (zx σ n0 bf).1 4009) 90 = .ok (.aload_n 1, 1) := zd zm_4009 (by decide +kernel)
theorem d_4009_91 {σ : Nat → Nat} {n0 : Nat} {bf : ab_B} : decode (ab_code (zx σ n0 bf).1 4009) 91 = .ok (.invokevirtual 240, 3) := zd zm_4009 (by decide +kernel)
theorem d_4009_94 {σ : Nat → Nat} {n0 : Nat} {bf : ab_B} : decode (ab_code (zx σ n0 bf).1 4009) 94 = .ok (.goto (-94), 3) := zd zm_4009 (by decide +kernel)
theorem d_4009_97 {σ : Nat → Nat} {n0 : Nat} {bf : ab_B} : decode (ab_code (zx σ n0 bf).1 4009) 97 = .ok (.aload_n 0, 1) := zd zm_4009 (by decide +kernel)
theorem d_4009_98 {σ : Nat → Nat} {n0 : Nat} {bf : ab_B} : decode (ab_code (zx σ n0 bf).1 4009) 98 = .ok (.iconst 2, 1) := zd zm_4009 (by decide +kernel)
theorem d_4009_99 {σ : Nat → Nat} {n0 : Nat} {bf : ab_B} : decode (ab_code (zx σ n0 bf).1 4009) 99 = .ok (.invokevirtual 25, 3) := zd zm_4009 (by decide +kernel)
theorem d_4009_102 {σ : Nat → Nat} {n0 : Nat} {bf : ab_B} : decode (ab_code (zx σ n0 bf).1 4009) 102 = .ok (.athrow, 1) := zd zm_4009 (by decide +kernel)
theorem d_4009_103 {σ : Nat → Nat} {n0 : Nat} {bf : ab_B} : decode (ab_code (zx σ n0 bf).1 4009) 103 = .ok (.aload_n 0, 1) := zd zm_4009 (by decide +kernel)
theorem d_4009_104 {σ : Nat → Nat} {n0 : Nat} {bf : ab_B} : decode (ab_code (zx σ n0 bf).1 4009) 104 = .ok (.getfield 115, 3) := zd zm_4009 (by decide +kernel)
theorem d_4009_107 {σ : Nat → Nat} {n0 : Nat} {bf : ab_B} : decode (ab_code (zx σ n0 bf).1 4009) 107 = .ok (.istore_n 2, 1) := zd zm_4009 (by decide +kernel)
theorem d_4009_108 {σ : Nat → Nat} {n0 : Nat} {bf : ab_B} : decode (ab_code (zx σ n0 bf).1 4009) 108 = .ok (.iload_n 2, 1) := zd zm_4009 (by decide +kernel)
theorem d_4009_109 {σ : Nat → Nat} {n0 : Nat} {bf : ab_B} : decode (ab_code (zx σ n0 bf).1 4009) 109 = .ok (.aload_n 0, 1) := zd zm_4009 (by decide +kernel)
theorem d_4009_110 {σ : Nat → Nat} {n0 : Nat} {bf : ab_B} : decode (ab_code (zx σ n0 bf).1 4009) 110 = .ok (.getfield 46, 3) := zd zm_4009 (by decide +kernel)
theorem d_4009_113 {σ : Nat → Nat} {n0 : Nat} {bf : ab_B} : decode (ab_code (zx σ n0 bf).1 4009) 113 = .ok (.invokevirtual 50, 3) := zd zm_4009 (by decide +kernel)
theorem d_4009_116 {σ : Nat → Nat} {n0 : Nat} {bf : ab_B} : decode (ab_code (zx σ n0 bf).1 4009) 116 = .ok (.if_icmp .ge 54, 3) := zd zm_4009 (by decide +kernel)
theorem d_4009_119 {σ : Nat → Nat} {n0 : Nat} {bf : ab_B} : decode (ab_code (zx σ n0 bf).1 4009) 119 = .ok (.aload_n 0, 1) := zd zm_4009 (by decide +kernel)
theorem d_4009_120 {σ : Nat → Nat} {n0 : Nat} {bf : ab_B} : decode (ab_code (zx σ n0 bf).1 4009) 120 = .ok (.getfield 46, 3) := zd zm_4009 (by decide +kernel)
theorem d_4009_123 {σ : Nat → Nat} {n0 : Nat} {bf : ab_B} : decode (ab_code (zx σ n0 bf).1 4009) 123 = .ok (.iload_n 2, 1) := zd zm_4009 (by decide +kernel)
theorem d_4009_124 {σ : Nat → Nat} {n0 : Nat} {bf : ab_B} : decode (ab_code (zx σ n0 bf).1 4009) 124 = .ok (.invokevirtual 56, 3) := zd zm_4009 (by decide +kernel)
theorem d_4009_127 {σ : Nat → Nat} {n0 : Nat} {bf : ab_B} : decode (ab_code (zx σ n0 bf).1 4009) 127 = .ok (.checkcast 60, 3) := zd zm_4009 (by decide +kernel)
theorem d_4009_130 {σ : Nat → Nat} {n0 : Nat} {bf : ab_B} : decode (ab_code (zx σ n0 bf).1 4009) 130 = .ok (.getfield 62, 3) := zd zm_4009 (by decide +kernel)
theorem d_4009_133 {σ : Nat → Nat} {n0 : Nat} {bf : ab_B} : decode (ab_code (zx σ n0 bf).1 4009) 133 = .ok (.iconst 3, 1) := zd zm_4009 (by decide +kernel)
theorem d_4009_134 {σ : Nat → Nat} {n0 : Nat} {bf : ab_B} : decode (ab_code (zx σ n0 bf).1 4009) 134 = .ok (.if_icmp .ne 30, 3) := zd zm_4009 (by decide +kernel)
theorem d_4009_137 {σ : Nat → Nat} {n0 : Nat} {bf : ab_B} : decode (ab_code (zx σ n0 bf).1 4009) 137 = .ok (.aload_n 0, 1) := zd zm_4009 (by decide +kernel)
theorem d_4009_138 {σ : Nat → Nat} {n0 : Nat} {bf : ab_B} : decode (ab_code (zx σ n0 bf).1 4009) 138 = .ok (.getfield 46, 3) := zd zm_4009 (by decide +kernel)
theorem d_4009_141 {σ : Nat → Nat} {n0 : Nat} {bf : ab_B} : decode (ab_code (zx σ n0 bf).1 4009) 141 = .ok (.iload_n 2, 1) := zd zm_4009 (by decide +kernel)
theorem d_4009_142 {σ : Nat → Nat} {n0 : Nat} {bf : ab_B} : decode (ab_code (zx σ n0 bf).1 4009) 142 = .ok (.invokevirtual 56, 3) := zd zm_4009 (by decide +kernel)
theorem d_4009_145 {σ : Nat → Nat} {n0 : Nat} {bf : ab_B} : decode (ab_code (zx σ n0 bf).1 4009) 145 = .ok (.checkcast 60, 3) := zd zm_4009 (by decide +kernel)
theorem d_4009_148 {σ : Nat → Nat} {n0 : Nat} {bf : ab_B} : decode (ab_code (zx σ n0 bf).1 4009) 148 = .ok (.getfield 243, 3) := zd zm_4009 (by decide +kernel)
theorem d_4009_151 {σ : Nat → Nat} {n0 : Nat} {bf : ab_B} : decode (ab_code (zx σ n0 bf).1 4009) 151 = .ok (.getfield 244, 3) := zd zm_4009 (by decide +kernel)
theorem d_4009_154 {σ : Nat → Nat} {n0 : Nat} {bf : ab_B} : decode (ab_code (zx σ n0 bf).1 4009) 154 = .ok (.ifCond .eq 10, 3) := zd zm_4009 (by decide +kernel)
theorem d_4009_157 {σ : Nat → Nat} {n0 : Nat} {bf : ab_B} : decode (ab_code (zx σ n0 bf).1 4009) 157 = .ok (.aload_n 0, 1) := zd zm_4009 (by decide +kernel)
theorem d_4009_158 {σ : Nat → Nat} {n0 : Nat} {bf : ab_B} : decode (ab_code (zx σ n0 bf).1 4009) 158 = .ok (.bipush 10, 2) := zd zm_4009 (by decide +kernel)
theorem d_4009_160 {σ : Nat → Nat} {n0 : Nat} {bf : ab_B} : decode (ab_code (zx σ n0 bf).1 4009) 160 = .ok (.invokevirtual 25, 3) := zd zm_4009 (by decide +kernel)
theorem d_4009_163 {σ : Nat → Nat} {n0 : Nat} {bf : ab_B} : decode (ab_code (zx σ n0 bf).1 4009) 163 = .ok (.athrow, 1) := zd zm_4009 (by decide +kernel)
theorem d_4009_164 {σ : Nat → Nat} {n0 : Nat} {bf : ab_B} : decode (ab_code (zx σ n0 bf).1 4009) 164 = .ok (.iinc 2 1, 3) := zd zm_4009 (by decide +kernel)
theorem d_4009_167 {σ : Nat → Nat} {n0 : Nat} {bf : ab_B} : decode (ab_code (zx σ n0 bf).1 4009) 167 = .ok (.goto (-59), 3) := zd zm_4009 (by decide +kernel)
theorem d_4009_170 {σ : Nat → Nat} {n0 : Nat} {bf : ab_B} : decode (ab_code (zx σ n0 bf).1 4009) 170 = .ok (.aload_n 1, 1) := zd zm_4009 (by decide +kernel)
theorem d_4009_171 {σ : Nat → Nat} {n0 : Nat} {bf : ab_B} : decode (ab_code (zx σ n0 bf).1 4009) 171 = .ok (.aload_n 1, 1) := zd zm_4009 (by decide +kernel)
theorem d_4009_172 {σ : Nat → Nat} {n0 : Nat} {bf : ab_B} : decode (ab_code (zx σ n0 bf).1 4009) 172 = .ok (.getfield 247, 3) := zd zm_4009 (by decide +kernel)
theorem d_4009_175 {σ : Nat → Nat} {n0 : Nat} {bf : ab_B} : decode (ab_code (zx σ n0 bf).1 4009) 175 = .ok (.invokevirtual 50, 3) := zd zm_4009 (by decide +kernel)
theorem d_4009_178 {σ : Nat → Nat} {n0 : Nat} {bf : ab_B} : decode (ab_code (zx σ n0 bf).1 4009) 178 = .ok (.aload_n 1, 1) := zd zm_4009 (by decide +kernel)
theorem d_4009_179 {σ : Nat → Nat} {n0 : Nat} {bf : ab_B} : decode (ab_code (zx σ n0 bf).1 4009) 179 = .ok (.getfield 250, 3) := zd zm_4009 (by decide +kernel)
theorem d_4009_182 {σ : Nat → Nat} {n0 : Nat} {bf : ab_B} : decode (ab_code (zx σ n0 bf).1 4009) 182 = .ok (.invokevirtual 50, 3) := zd zm_4009 (by decide +kernel)
theorem d_4009_185 {σ : Nat → Nat} {n0 : Nat} {bf : ab_B} : decode (ab_code (zx σ n0 bf).1 4009) 185 = .ok (.iadd, 1) := zd zm_4009 (by decide +kernel)
theorem d_4009_186 {σ : Nat → Nat} {n0 : Nat} {bf : ab_B} : decode (ab_code (zx σ n0 bf).1 4009) 186 = .ok (.putfield 252, 3) := zd zm_4009 (by decide +kernel)
theorem d_4009_189 {σ : Nat → Nat} {n0 : Nat} {bf : ab_B} : decode (ab_code (zx σ n0 bf).1 4009) 189 = .ok (.aload_n 1, 1) := zd zm_4009 (by decide +kernel)
theorem d_4009_190 {σ : Nat → Nat} {n0 : Nat} {bf : ab_B} : decode (ab_code (zx σ n0 bf).1 4009) 190 = .ok (.getfield 255, 3) := zd zm_4009 (by decide +kernel)
theorem d_4009_193 {σ : Nat → Nat} {n0 : Nat} {bf : ab_B} : decode (ab_code (zx σ n0 bf).1 4009) 193 = .ok (.ifnull 21, 3) := zd zm_4009 (by decide +kernel)
theorem d_4009_196 {σ : Nat → Nat} {n0 : Nat} {bf : ab_B} : decode (ab_code (zx σ n0 bf).1 4009) 196 = .ok (.aload_n 1, 1) := zd zm_4009 (by decide +kernel)
theorem d_4009_197 {σ : Nat → Nat} {n0 : Nat} {bf : ab_B} : decode (ab_code (zx σ n0 bf).1 4009) 197 = .ok (.getfield 258, 3) := zd zm_4009 (by decide +kernel)
theorem d_4009_200 {σ : Nat → Nat} {n0 : Nat} {bf : ab_B} : decode (ab_code (zx σ n0 bf).1 4009) 200 = .ok (.aload_n 1, 1) := zd zm_4009 (by decide +kernel)
theorem d_4009_201 {σ : Nat → Nat} {n0 : Nat} {bf : ab_B} : decode (ab_code (zx σ n0 bf).1 4009) 201 = .ok (.dup, 1) := zd zm_4009 (by decide +kernel)
theorem d_4009_202 {σ : Nat → Nat} {n0 : Nat} {bf : ab_B} : decode (ab_code (zx σ n0 bf).1 4009) 202 = .ok (.getfield 252, 3) := zd zm_4009 (by decide +kernel)
theorem d_4009_205 {σ : Nat → Nat} {n0 : Nat} {bf : ab_B} : decode (ab_code (zx σ n0 bf).1 4009) 205 = .ok (.dup_x1, 1) := zd zm_4009 (by decide +kernel)
theorem d_4009_206 {σ : Nat → Nat} {n0 : Nat} {bf : ab_B} : decode (ab_code (zx σ n0 bf).1 4009) 206 = .ok (.iconst 1, 1) := zd zm_4009 (by decide +kernel)
theorem d_4009_207 {σ : Nat → Nat} {n0 : Nat} {bf : ab_B} : decode (ab_code (zx σ n0 bf).1 4009) 207 = .ok (.iadd, 1) := zd zm_4009 (by decide +kernel)
theorem d_4009_208 {σ : Nat → Nat} {n0 : Nat} {bf : ab_B} : decode (ab_code (zx σ n0 bf).1 4009) 208 = .ok (.putfield 252, 3) := zd zm_4009 (by decide +kernel)
theorem d_4009_211 {σ : Nat → Nat} {n0 : Nat} {bf : ab_B} : decode (ab_code (zx σ n0 bf).1 4009) 211 = .ok (.putfield 104, 3) := zd zm_4009 (by decide +kernel)
theorem d_4009_214 {σ : Nat → Nat} {n0 : Nat} {bf : ab_B} : decode (ab_code (zx σ n0 bf).1 4009) 214 = .ok (.aload_n 1, 1) := zd zm_4009 (by decide +kernel)
theorem d_4009_215 {σ : Nat → Nat} {n0 : Nat} {bf : ab_B} : decode (ab_code (zx σ n0 bf).1 4009) 215 = .ok (.aload_n 1, 1) := zd zm_4009 (by decide +kernel)
theorem d_4009_216 {σ : Nat → Nat} {n0 : Nat} {bf : ab_B} : decode (ab_code (zx σ n0 bf).1 4009) 216 = .ok (.getfield 252, 3) := zd zm_4009 (by decide +kernel)
theorem d_4009_219 {σ : Nat → Nat} {n0 : Nat} {bf : ab_B} : decode (ab_code (zx σ n0 bf).1 4009) 219 = .ok (.putfield 262, 3) := zd zm_4009 (by decide +kernel)
theorem d_4009_222 {σ : Nat → Nat} {n0 : Nat} {bf : ab_B} : decode (ab_code (zx σ n0 bf).1 4009) 222 = .ok (.aload_n 1, 1) := zd zm_4009 (by decide +kernel)
theorem d_4009_223 {σ : Nat → Nat} {n0 : Nat} {bf : ab_B} : decode (ab_code (zx σ n0 bf).1 4009) 223 = .ok (.aload_n 0, 1) := zd zm_4009 (by decide +kernel)
theorem d_4009_224 {σ : Nat → Nat} {n0 : Nat} {bf : ab_B} : decode (ab_code (zx σ n0 bf).1 4009) 224 = .ok (.getfield 128, 3) := zd zm_4009 (by decide +kernel)
theorem d_4009_227 {σ : Nat → Nat} {n0 : Nat} {bf : ab_B} : decode (ab_code (zx σ n0 bf).1 4009) 227 = .ok (.getfield 265, 3) := zd zm_4009 (by decide +kernel)
theorem d_4009_230 {σ : Nat → Nat} {n0 : Nat} {bf : ab_B} : decode (ab_code (zx σ n0 bf).1 4009) 230 = .ok (.putfield 267, 3) := zd zm_4009 (by decide +kernel)
theorem d_4009_233 {σ : Nat → Nat} {n0 : Nat} {bf : ab_B} : decode (ab_code (zx σ n0 bf).1 4009) 233 = .ok (.aload_n 0, 1) := zd zm_4009 (by decide +kernel)
theorem d_4009_234 {σ : Nat → Nat} {n0 : Nat} {bf : ab_B} : decode (ab_code (zx σ n0 bf).1 4009) 234 = .ok (.bipush 44, 2) := zd zm_4009 (by decide +kernel)
theorem d_4009_236 {σ : Nat → Nat} {n0 : Nat} {bf : ab_B} : decode (ab_code (zx σ n0 bf).1 4009) 236 = .ok (.aload_n 1, 1) := zd zm_4009 (by decide +kernel)
theorem d_4009_237 {σ : Nat → Nat} {n0 : Nat} {bf : ab_B} : decode (ab_code (zx σ n0 bf).1 4009) 237 = .ok (.getfield 270, 3) := zd zm_4009 (by decide +kernel)
theorem d_4009_240 {σ : Nat → Nat} {n0 : Nat} {bf : ab_B} : decode (ab_code (zx σ n0 bf).1 4009) 240 = .ok (.invokevirtual 273, 3) := zd zm_4009 (by decide +kernel)
theorem d_4009_243 {σ : Nat → Nat} {n0 : Nat} {bf : ab_B} : decode (ab_code (zx σ n0 bf).1 4009) 243 = .ok (.pop, 1) := zd zm_4009 (by decide +kernel)
theorem d_4009_244 {σ : Nat → Nat} {n0 : Nat} {bf : ab_B} : decode (ab_code (zx σ n0 bf).1 4009) 244 = .ok (.iconst 0, 1) := zd zm_4009 (by decide +kernel)
theorem d_4009_245 {σ : Nat → Nat} {n0 : Nat} {bf : ab_B} : decode (ab_code (zx σ n0 bf).1 4009) 245 = .ok (.istore_n 2, 1) := zd zm_4009 (by decide +kernel)
theorem d_4009_246 {σ : Nat → Nat} {n0 : Nat} {bf : ab_B} : decode (ab_code (zx σ n0 bf).1 4009) 246 = .ok (.iload_n 2, 1) := zd zm_4009 (by decide +kernel)
theorem d_4009_247 {σ : Nat → Nat} {n0 : Nat} {bf : ab_B} : decode (ab_code (zx σ n0 bf).1 4009) 247 = .ok (.aload_n 1, 1) := zd zm_4009 (by decide +kernel)
theorem d_4009_248 {σ : Nat → Nat} {n0 : Nat} {bf : ab_B} : decode (ab_code (zx σ n0 bf).1 4009) 248 = .ok (.getfield 250, 3) := zd zm_4009 (by decide +kernel)
theorem d_4009_251 {σ : Nat → Nat} {n0 : Nat} {bf : ab_B} : decode (ab_code (zx σ n0 bf).1 4009) 251 = .ok (.invokevirtual 50, 3) := zd zm_4009 (by decide +kernel)
theorem d_4009_254 {σ : Nat → Nat} {n0 : Nat} {bf : ab_B} : decode (ab_code (zx σ n0 bf).1 4009) 254 = .ok (.if_icmp .ge 56, 3) := zd zm_4009 (by decide +kernel)
theorem d_4009_257 {σ : Nat → Nat} {n0 : Nat} {bf : ab_B} : decode (ab_code (zx σ n0 bf).1 4009) 257 = .ok (.aload_n 0, 1) := zd zm_4009 (by decide +kernel)
theorem d_4009_258 {σ : Nat → Nat} {n0 : Nat} {bf : ab_B} : decode (ab_code (zx σ n0 bf).1 4009) 258 = .ok (.aload_n 1, 1) := zd zm_4009 (by decide +kernel)
theorem d_4009_259 {σ : Nat → Nat} {n0 : Nat} {bf : ab_B} : decode (ab_code (zx σ n0 bf).1 4009) 259 = .ok (.getfield 250, 3) := zd zm_4009 (by decide +kernel)
theorem d_4009_262 {σ : Nat → Nat} {n0 : Nat} {bf : ab_B} : decode (ab_code (zx σ n0 bf).1 4009) 262 = .ok (.iload_n 2, 1) := zd zm_4009 (by decide +kernel)
theorem d_4009_263 {σ : Nat → Nat} {n0 : Nat} {bf : ab_B} : decode (ab_code (zx σ n0 bf).1 4009) 263 = .ok (.invokevirtual 56, 3) := zd zm_4009 (by decide +kernel)
theorem d_4009_266 {σ : Nat → Nat} {n0 : Nat} {bf : ab_B} : decode (ab_code (zx σ n0 bf).1 4009) 266 = .ok (.checkcast 60, 3) := zd zm_4009 (by decide +kernel)
theorem d_4009_269 {σ : Nat → Nat} {n0 : Nat} {bf : ab_B} : decode (ab_code (zx σ n0 bf).1 4009) 269 = .ok (.invokevirtual 277, 3) := zd zm_4009 (by decide +kernel)
theorem d_4009_272 {σ : Nat → Nat} {n0 : Nat} {bf : ab_B} : decode (ab_code (zx σ n0 bf).1 4009) 272 = .ok (.aload_n 1, 1) := zd zm_4009 (by decide +kernel)
theorem d_4009_273 {σ : Nat → Nat} {n0 : Nat} {bf : ab_B} : decode (ab_code (zx σ n0 bf).1 4009) 273 = .ok (.getfield 250, 3) := zd zm_4009 (by decide +kernel)
theorem d_4009_276 {σ : Nat → Nat} {n0 : Nat} {bf : ab_B} : decode (ab_code (zx σ n0 bf).1 4009) 276 = .ok (.iload_n 2, 1) := zd zm_4009 (by decide +kernel)
theorem d_4009_277 {σ : Nat → Nat} {n0 : Nat} {bf : ab_B} : decode (ab_code (zx σ n0 bf).1 4009) 277 = .ok (.invokevirtual 56, 3) := zd zm_4009 (by decide +kernel)
theorem d_4009_280 {σ : Nat → Nat} {n0 : Nat} {bf : ab_B} : decode (ab_code (zx σ n0 bf).1 4009) 280 = .ok (.checkcast 60, 3) := zd zm_4009 (by decide +kernel)
theorem d_4009_283 {σ : Nat → Nat} {n0 : Nat} {bf : ab_B} : decode (ab_code (zx σ n0 bf).1 4009) 283 = .ok (.getfield 281, 3) := zd zm_4009 (by decide +kernel)
theorem d_4009_286 {σ : Nat → Nat} {n0 : Nat} {bf : ab_B} : decode (ab_code (zx σ n0 bf).1 4009) 286 = .ok (.ifCond .eq 18, 3) := zd zm_4009 (by decide +kernel)
theorem d_4009_289 {σ : Nat → Nat} {n0 : Nat} {bf : ab_B} : decode (ab_code (zx σ n0 bf).1 4009) 289 = .ok (.aload_n 0, 1) := zd zm_4009 (by decide +kernel)
theorem d_4009_290 {σ : Nat → Nat} {n0 : Nat} {bf : ab_B} : decode (ab_code (zx σ n0 bf).1 4009) 290 = .ok (.aload_n 1, 1) := zd zm_4009 (by decide +kernel)
theorem d_4009_291 {σ : Nat → Nat} {n0 : Nat} {bf : ab_B} : decode (ab_code (zx σ n0 bf).1 4009) 291 = .ok (.getfield 250, 3) := zd zm_4009 (by decide +kernel)
theorem d_4009_294 {σ : Nat → Nat} {n0 : Nat} {bf : ab_B} : decode (ab_code (zx σ n0 bf).1 4009) 294 = .ok (.iload_n 2, 1) := zd zm_4009 (by decide +kernel)
theorem d_4009_295 {σ : Nat → Nat} {n0 : Nat} {bf : ab_B} : decode (ab_code (zx σ n0 bf).1 4009) 295 = .ok (.invokevirtual 56, 3) := zd zm_4009 (by decide +kernel)
theorem d_4009_298 {σ : Nat → Nat} {n0 : Nat} {bf : ab_B} : decode (ab_code (zx σ n0 bf).1 4009) 298 = .ok (.checkcast 60, 3) := zd zm_4009 (by decide +kernel)
theorem d_4009_301 {σ : Nat → Nat} {n0 : Nat} {bf : ab_B} : decode (ab_code (zx σ n0 bf).1 4009) 301 = .ok (.invokevirtual 284, 3) := zd zm_4009 (by decide +kernel)
theorem d_4009_304 {σ : Nat → Nat} {n0 : Nat} {bf : ab_B} : decode (ab_code (zx σ n0 bf).1 4009) 304 = .ok (.iinc 2 1, 3) := zd zm_4009 (by decide +kernel)
theorem d_4009_307 {σ : Nat → Nat} {n0 : Nat} {bf : ab_B} : decode (ab_code (zx σ n0 bf).1 4009) 307 = .ok (.goto (-61), 3) := zd zm_4009 (by decide +kernel)
theorem d_4009_310 {σ : Nat → Nat} {n0 : Nat} {bf : ab_B} : decode (ab_code (zx σ n0 bf).1 4009) 310 = .ok (.aload_n 0, 1) := zd zm_4009 (by decide +kernel)
theorem d_4009_311 {σ : Nat → Nat} {n0 : Nat} {bf : ab_B} : decode (ab_code (zx σ n0 bf).1 4009) 311 = .ok (.bipush 45, 2) := zd zm_4009 (by decide +kernel)
theorem d_4009_313 {σ : Nat → Nat} {n0 : Nat} {bf : ab_B} : decode (ab_code (zx σ n0 bf).1 4009) 313 = .ok (.aload_n 1, 1) := zd zm_4009 (by decide +kernel)
theorem d_4009_314 {σ : Nat → Nat} {n0 : Nat} {bf : ab_B} : decode (ab_code (zx σ n0 bf).1 4009) 314 = .ok (.getfield 270, 3) := zd zm_4009 (by decide +kernel)
theorem d_4009_317 {σ : Nat → Nat} {n0 : Nat} {bf : ab_B} : decode (ab_code (zx σ n0 bf).1 4009) 317 = .ok (.invokevirtual 273, 3) := zd zm_4009 (by decide +kernel)
theorem d_4009_320 {σ : Nat → Nat} {n0 : Nat} {bf : ab_B} : decode (ab_code (zx σ n0 bf).1 4009) 320 = .ok (.pop, 1) := zd zm_4009 (by decide +kernel)
theorem d_4009_321 {σ : Nat → Nat} {n0 : Nat} {bf : ab_B} : decode (ab_code (zx σ n0 bf).1 4009) 321 = .ok (.aload_n 0, 1) := zd zm_4009 (by decide +kernel)
theorem d_4009_322 {σ : Nat → Nat} {n0 : Nat} {bf : ab_B} : decode (ab_code (zx σ n0 bf).1 4009) 322 = .ok (.getfield 5, 3) := zd zm_4009 (by decide +kernel)
theorem d_4009_325 {σ : Nat → Nat} {n0 : Nat} {bf : ab_B} : decode (ab_code (zx σ n0 bf).1 4009) 325 = .ok (.invokevirtual 29, 3) := zd zm_4009 (by decide +kernel)
theorem d_4009_328 {σ : Nat → Nat} {n0 : Nat} {bf : ab_B} : decode (ab_code (zx σ n0 bf).1 4009) 328 = .ok (.aload_n 0, 1) := zd zm_4009 (by decide +kernel)
theorem d_4009_329 {σ : Nat → Nat} {n0 : Nat} {bf : ab_B} : decode (ab_code (zx σ n0 bf).1 4009) 329 = .ok (.bipush 8, 2) := zd zm_4009 (by decide +kernel)
theorem d_4009_331 {σ : Nat → Nat} {n0 : Nat} {bf : ab_B} : decode (ab_code (zx σ n0 bf).1 4009) 331 = .ok (.invokevirtual 287, 3) := zd zm_4009 (by decide +kernel)
theorem d_4009_334 {σ : Nat → Nat} {n0 : Nat} {bf : ab_B} : decode (ab_code (zx σ n0 bf).1 4009) 334 = .ok (.aload_n 0, 1) := zd zm_4009 (by decide +kernel)
theorem d_4009_335 {σ : Nat → Nat} {n0 : Nat} {bf : ab_B} : decode (ab_code (zx σ n0 bf).1 4009) 335 = .ok (.getfield 5, 3) := zd zm_4009 (by decide +kernel)
theorem d_4009_338 {σ : Nat → Nat} {n0 : Nat} {bf : ab_B} : decode (ab_code (zx σ n0 bf).1 4009) 338 = .ok (.invokevirtual 29, 3) := zd zm_4009 (by decide +kernel)
theorem d_4009_341 {σ : Nat → Nat} {n0 : Nat} {bf : ab_B} : decode (ab_code (zx σ n0 bf).1 4009) 341 = .ok (.aload_n 0, 1) := zd zm_4009 (by decide +kernel)
theorem d_4009_342 {σ : Nat → Nat} {n0 : Nat} {bf : ab_B} : decode (ab_code (zx σ n0 bf).1 4009) 342 = .ok (.bipush 46, 2) := zd zm_4009 (by decide +kernel)
theorem d_4009_344 {σ : Nat → Nat} {n0 : Nat} {bf : ab_B} : decode (ab_code (zx σ n0 bf).1 4009) 344 = .ok (.aload_n 1, 1) := zd zm_4009 (by decide +kernel)
theorem d_4009_345 {σ : Nat → Nat} {n0 : Nat} {bf : ab_B} : decode (ab_code (zx σ n0 bf).1 4009) 345 = .ok (.getfield 270, 3) := zd zm_4009 (by decide +kernel)
theorem d_4009_348 {σ : Nat → Nat} {n0 : Nat} {bf : ab_B} : decode (ab_code (zx σ n0 bf).1 4009) 348 = .ok (.invokevirtual 273, 3) := zd zm_4009 (by decide +kernel)
theorem d_4009_351 {σ : Nat → Nat} {n0 : Nat} {bf : ab_B} : decode (ab_code (zx σ n0 bf).1 4009) 351 = .ok (.pop, 1) := zd zm_4009 (by decide +kernel)
theorem d_4009_352 {σ : Nat → Nat} {n0 : Nat} {bf : ab_B} : decode (ab_code (zx σ n0 bf).1 4009) 352 = .ok (.return_, 1) := zd zm_4009 (by decide +kernel)
def w_X5_block_89 (X : zs_X) (d : Nat) (p0 : Nat) (p1 : Option Nat) (S : zs_T) (Q : zs_Q) : Prop :=
  (zs_K S p0 = some (.inl 4) ∧ zs_C X d 4090 [.ref p0, va_rf p1] S (zs_kV (fun S2 => (zs_U X d 4009 0 [(0, .ref p0), (1, va_rf p1)] [] S2 Q)) Q))
theorem u_X5_block_89 {σ : Nat → Nat} {n0 : Nat} {bf : ab_B} {d : Nat} {p0 : Nat} {p1 : Option Nat} {S : zs_T} {Q : zs_Q} (hB : zt_B bf) (h : w_X5_block_89 (zx σ n0 bf) d p0 p1 S Q) : zs_U (zx σ n0 bf) d 4009 89 [(0, .ref p0), (1, va_rf p1)] [] S Q := by
  unfold w_X5_block_89 at h
  refine zu_aload_n d_4009_89 rfl (zs_ra _) ?_
  refine zu_aload_n d_4009_90 rfl (zs_rr _) ?_
  obtain ⟨k1, h⟩ := h
  refine zc_4_240 (x0 := p1) hB rfl k1 d_4009_91 (Nat.le_of_ble_eq_true rfl) h (fun S2 h => ?_)
  refine zu_goto (t := 0) d_4009_94 rfl ?_
  exact h.weak ⟨rfl, rfl, trivial⟩
def w_X5_block_67 (X : zs_X) (d : Nat) (p0 : Nat) (p1 : Option Nat) (S : zs_T) (Q : zs_Q) : Prop :=
  (zs_K S p0 = some (.inl 4) ∧ ∃ b2, (zs_R S 4000 p0) = some b2 ∧ zs_K S b2 = some (.inl 5) ∧ zs_C X d 5015 [.ref b2, .int (4 : Int32)] S (zs_kI (fun v6 S5 => (((¬ v6 = 0 → w_X5_block_89 X d p0 p1 S5 Q) ∧ (¬ (¬ v6 = 0) → (zs_K S5 p0 = some (.inl 4) ∧ ∃ b9, (zs_R S5 4000 p0) = some b9 ∧ zs_K S5 b9 = some (.inl 5) ∧ zs_C X d 5015 [.ref b9, .int (5 : Int32)] S5 (zs_kI (fun v13 S12 => (((v13 = 0 → (zs_K S12 p0 = some (.inl 4) ∧ zs_C X d 4006 [.ref p0, .int (2 : Int32)] S12 (zs_kR (fun v17 S16 => (∃ b18, v17 = some b18 ∧ Q (.threw b18) S16)) Q))) ∧ (¬ (v13 = 0) → w_X5_block_89 X d p0 p1 S12 Q)))) Q)))))) Q))
theorem u_X5_block_67 {σ : Nat → Nat} {n0 : Nat} {bf : ab_B} {d : Nat} {p0 : Nat} {p1 : Option Nat} {S : zs_T} {Q : zs_Q} (hB : zt_B bf) (h : w_X5_block_67 (zx σ n0 bf) d p0 p1 S Q) : zs_U (zx σ n0 bf) d 4009 67 [(0, .ref p0), (1, va_rf p1)] [] S Q := by
  unfold w_X5_block_67 at h
  refine zu_aload_n d_4009_67 rfl (zs_ra _) ?_
  obtain ⟨k1, h⟩ := h
  refine zg_4_5 rfl d_4009_68 k1 ?_
  refine zu_iconst d_4009_71 zi_4 ?_
  obtain ⟨b2, e3, h⟩ := h
  refine zs_stk1 (zs_rfe e3) ?_
  obtain ⟨k4, h⟩ := h
  refine zc_4_33 (x0 := (4 : Int32)) hB rfl k4 d_4009_72 (Nat.le_of_ble_eq_true rfl) h (fun v6 S5 h => ?_)
  refine zu_ifne (t := 89) d_4009_75 rfl (fun c7 => ?_) (fun c7 => ?_)
  · have h := h.1 c7
    exact (u_X5_block_89 hB h).weak ⟨rfl, rfl, trivial⟩
  · have h := h.2 c7
    refine zu_aload_n d_4009_78 rfl (zs_ra _) ?_
    obtain ⟨k8, h⟩ := h
    refine zg_4_5 rfl d_4009_79 k8 ?_
    refine zu_iconst d_4009_82 zi_5 ?_
    obtain ⟨b9, e10, h⟩ := h
    refine zs_stk1 (zs_rfe e10) ?_
    obtain ⟨k11, h⟩ := h
    refine zc_4_33 (x0 := (5 : Int32)) hB rfl k11 d_4009_83 (Nat.le_of_ble_eq_true rfl) h (fun v13 S12 h => ?_)
    refine zu_ifeq (t := 97) d_4009_86 rfl (fun c14 => ?_) (fun c14 => ?_)
    · have h := h.1 c14
      refine zu_aload_n d_4009_97 rfl (zs_ra _) ?_
      refine zu_iconst d_4009_98 zi_2 ?_
      obtain ⟨k15, h⟩ := h
      refine zc_4_25 (x0 := (2 : Int32)) hB rfl k15 d_4009_99 (Nat.le_of_ble_eq_true rfl) h (fun v17 S16 h => ?_)
      obtain ⟨b18, e19, h⟩ := h
      refine zs_stk0 (zs_rfe e19) ?_
      exact zu_throw d_4009_102 h
    · have h := h.2 c14
      exact (u_X5_block_89 hB h).weak ⟨rfl, rfl, trivial⟩
def w_X5_block_59 (X : zs_X) (d : Nat) (p0 : Nat) (p1 : Option Nat) (S : zs_T) (Q : zs_Q) : Prop :=
  (zs_K S p0 = some (.inl 4) ∧ zs_C X d 4087 [.ref p0, va_rf p1] S (zs_kV (fun S2 => (zs_U X d 4009 0 [(0, .ref p0), (1, va_rf p1)] [] S2 Q)) Q))
theorem u_X5_block_59 {σ : Nat → Nat} {n0 : Nat} {bf : ab_B} {d : Nat} {p0 : Nat} {p1 : Option Nat} {S : zs_T} {Q : zs_Q} (hB : zt_B bf) (h : w_X5_block_59 (zx σ n0 bf) d p0 p1 S Q) : zs_U (zx σ n0 bf) d 4009 59 [(0, .ref p0), (1, va_rf p1)] [] S Q := by
  unfold w_X5_block_59 at h
  refine zu_aload_n d_4009_59 rfl (zs_ra _) ?_
  refine zu_aload_n d_4009_60 rfl (zs_rr _) ?_
  obtain ⟨k1, h⟩ := h
  refine zc_4_237 (x0 := p1) hB rfl k1 d_4009_61 (Nat.le_of_ble_eq_true rfl) h (fun S2 h => ?_)
  refine zu_goto (t := 0) d_4009_64 rfl ?_
  exact h.weak ⟨rfl, rfl, trivial⟩
def w_X5_block_45 (X : zs_X) (d : Nat) (p0 : Nat) (p1 : Option Nat) (S : zs_T) (Q : zs_Q) : Prop :=
  (zs_U X d 4009 0 [(0, .ref p0), (1, va_rf p1)] [] S Q)
theorem u_X5_block_45 {σ : Nat → Nat} {n0 : Nat} {bf : ab_B} {d : Nat} {p0 : Nat} {p1 : Option Nat} {S : zs_T} {Q : zs_Q} (hB : zt_B bf) (h : w_X5_block_45 (zx σ n0 bf) d p0 p1 S Q) : zs_U (zx σ n0 bf) d 4009 45 [(0, .ref p0), (1, va_rf p1)] [] S Q := by
  unfold w_X5_block_45 at h
  refine zu_goto (t := 0) d_4009_45 rfl ?_
  exact h.weak ⟨rfl, rfl, trivial⟩
def w_X5_block_0 (X : zs_X) (d : Nat) (p0 : Nat) (p1 : Option Nat) (S : zs_T) (Q : zs_Q) : Prop :=
  (zs_K S p0 = some (.inl 4) ∧ ∃ b2, (zs_R S 4000 p0) = some b2 ∧ zs_K S b2 = some (.inl 5) ∧ zs_C X d 5015 [.ref b2, .int (7 : Int32)] S (zs_kI (fun v6 S5 => (((¬ v6 = 0 → (zs_K S5 p0 = some (.inl 4) ∧ zs_U X d 4009 108 [(0, .ref p0), (1, va_rf p1), (2, .int (zs_I S5 4009 p0))] [] S5 Q)) ∧ (¬ (¬ v6 = 0) → (zs_K S5 p0 = some (.inl 4) ∧ ∃ b10, (zs_R S5 4000 p0) = some b10 ∧ zs_K S5 b10 = some (.inl 5) ∧ zs_C X d 5015 [.ref b10, .int (1 : Int32)] S5 (zs_kI (fun v14 S13 => (((v14 = 0 → (zs_K S13 p0 = some (.inl 4) ∧ ∃ b17, (zs_R S13 4000 p0) = some b17 ∧ zs_K S13 b17 = some (.inl 5) ∧ zs_C X d 5015 [.ref b17, .int (2 : Int32)] S13 (zs_kI (fun v21 S20 => (((v21 = 0 → (zs_K S20 p0 = some (.inl 4) ∧ ∃ b24, (zs_R S20 4000 p0) = some b24 ∧ zs_K S20 b24 = some (.inl 5) ∧ zs_C X d 5015 [.ref b24, .int (3 : Int32)] S20 (zs_kI (fun v28 S27 => (((v28 = 0 → w_X5_block_67 X d p0 p1 S27 Q) ∧ (¬ (v28 = 0) → w_X5_block_59 X d p0 p1 S27 Q)))) Q))) ∧ (¬ (v21 = 0) → (zs_K S20 p0 = some (.inl 4) ∧ zs_C X d 4058 [.ref p0] S20 (zs_kV (fun S31 => w_X5_block_45 X d p0 p1 S31 Q) Q)))))) Q))) ∧ (¬ (v14 = 0) → (zs_K S13 p0 = some (.inl 4) ∧ zs_C X d 4010 [.ref p0] S13 (zs_kV (fun S34 => (zs_U X d 4009 0 [(0, .ref p0), (1, va_rf p1)] [] S34 Q)) Q)))))) Q)))))) Q))
theorem u_X5_block_0 {σ : Nat → Nat} {n0 : Nat} {bf : ab_B} {d : Nat} {p0 : Nat} {p1 : Option Nat} {S : zs_T} {Q : zs_Q} (hB : zt_B bf) (h : w_X5_block_0 (zx σ n0 bf) d p0 p1 S Q) : zs_U (zx σ n0 bf) d 4009 0 [(0, .ref p0), (1, va_rf p1)] [] S Q := by
  unfold w_X5_block_0 at h
  refine zu_aload_n d_4009_0 rfl (zs_ra _) ?_
  obtain ⟨k1, h⟩ := h
  refine zg_4_5 rfl d_4009_1 k1 ?_
  refine zu_bipush d_4009_4 zj_7 ?_
  obtain ⟨b2, e3, h⟩ := h
  refine zs_stk1 (zs_rfe e3) ?_
  obtain ⟨k4, h⟩ := h
  refine zc_4_33 (x0 := (7 : Int32)) hB rfl k4 d_4009_6 (Nat.le_of_ble_eq_true rfl) h (fun v6 S5 h => ?_)
  refine zu_ifne (t := 103) d_4009_9 rfl (fun c7 => ?_) (fun c7 => ?_)
  · have h := h.1 c7
    refine zu_aload_n d_4009_103 rfl (zs_ra _) ?_
    obtain ⟨k8, h⟩ := h
    refine zg_4_115 rfl d_4009_104 k8 ?_
    refine zu_istore_n d_4009_107 (zs_lt zq_4009 rfl) ?_
    refine zs_U.weak (L1 := [(2, .int (zs_I S5 4009 p0)), (0, .ref p0), (1, va_rf p1)]) ?_ ⟨rfl, zs_gp1 rfl (Or.inl rfl) rfl, zs_gp1 rfl (Or.inl (zs_cat _)) rfl, trivial⟩
    exact h.weak ⟨rfl, rfl, rfl, trivial⟩
  · have h := h.2 c7
    refine zu_aload_n d_4009_12 rfl (zs_ra _) ?_
    obtain ⟨k9, h⟩ := h
    refine zg_4_5 rfl d_4009_13 k9 ?_
    refine zu_iconst d_4009_16 zi_1 ?_
    obtain ⟨b10, e11, h⟩ := h
    refine zs_stk1 (zs_rfe e11) ?_
    obtain ⟨k12, h⟩ := h
    refine zc_4_33 (x0 := (1 : Int32)) hB rfl k12 d_4009_17 (Nat.le_of_ble_eq_true rfl) h (fun v14 S13 h => ?_)
    refine zu_ifeq (t := 30) d_4009_20 rfl (fun c15 => ?_) (fun c15 => ?_)
    · have h := h.1 c15
      refine zu_aload_n d_4009_30 rfl (zs_ra _) ?_
      obtain ⟨k16, h⟩ := h
      refine zg_4_5 rfl d_4009_31 k16 ?_
      refine zu_iconst d_4009_34 zi_2 ?_
      obtain ⟨b17, e18, h⟩ := h
      refine zs_stk1 (zs_rfe e18) ?_
      obtain ⟨k19, h⟩ := h
      refine zc_4_33 (x0 := (2 : Int32)) hB rfl k19 d_4009_35 (Nat.le_of_ble_eq_true rfl) h (fun v21 S20 h => ?_)
      refine zu_ifeq (t := 48) d_4009_38 rfl (fun c22 => ?_) (fun c22 => ?_)
      · have h := h.1 c22
        refine zu_aload_n d_4009_48 rfl (zs_ra _) ?_
        obtain ⟨k23, h⟩ := h
        refine zg_4_5 rfl d_4009_49 k23 ?_
        refine zu_iconst d_4009_52 zi_3 ?_
        obtain ⟨b24, e25, h⟩ := h
        refine zs_stk1 (zs_rfe e25) ?_
        obtain ⟨k26, h⟩ := h
        refine zc_4_33 (x0 := (3 : Int32)) hB rfl k26 d_4009_53 (Nat.le_of_ble_eq_true rfl) h (fun v28 S27 h => ?_)
        refine zu_ifeq (t := 67) d_4009_56 rfl (fun c29 => ?_) (fun c29 => ?_)
        · have h := h.1 c29
          exact (u_X5_block_67 hB h).weak ⟨rfl, rfl, trivial⟩
        · have h := h.2 c29
          exact (u_X5_block_59 hB h).weak ⟨rfl, rfl, trivial⟩
      · have h := h.2 c22
        refine zu_aload_n d_4009_41 rfl (zs_ra _) ?_
        obtain ⟨k30, h⟩ := h
        refine zc_4_235  hB rfl k30 d_4009_42 (Nat.le_of_ble_eq_true rfl) h (fun S31 h => ?_)
        exact (u_X5_block_45 hB h).weak ⟨rfl, rfl, trivial⟩
    · have h := h.2 c15
      refine zu_aload_n d_4009_23 rfl (zs_ra _) ?_
      obtain ⟨k33, h⟩ := h
      refine zc_4_232  hB rfl k33 d_4009_24 (Nat.le_of_ble_eq_true rfl) h (fun S34 h => ?_)
      refine zu_goto (t := 0) d_4009_27 rfl ?_
      exact h.weak ⟨rfl, rfl, trivial⟩
def w_X5_block_214 (X : zs_X) (d : Nat) (p0 : Nat) (p1 : Option Nat) (S : zs_T) (Q : zs_Q) : Prop :=
  (∃ b1, p1 = some b1 ∧ zs_K S b1 = some (.inl 10) ∧ ab_n0 X.1 ≤ b1 ∧ ∀ S5, S5 = zs_sI S 10009 b1 (zs_I S 10008 b1) → zs_K S p0 = some (.inl 4) ∧ ∃ b9, (zs_R S5 4001 p0) = some b9 ∧ zs_K S b9 = some (.inl 3) ∧ ∀ S12, S12 = zs_sI S5 10010 b1 (zs_I S5 3001 b9) → zs_C X d 4094 [.ref p0, .int (44 : Int32), .int (zs_I S12 10001 b1)] S12 (zs_kI (fun v16 S15 => (zs_U X d 4009 246 [(0, .ref p0), (1, va_rf p1), (2, .int (0 : Int32))] [] S15 Q)) Q))
theorem u_X5_block_214 {σ : Nat → Nat} {n0 : Nat} {bf : ab_B} {d : Nat} {p0 : Nat} {p1 : Option Nat} {S : zs_T} {Q : zs_Q} (hB : zt_B bf) (h : w_X5_block_214 (zx σ n0 bf) d p0 p1 S Q) : zs_U (zx σ n0 bf) d 4009 214 [(0, .ref p0), (1, va_rf p1)] [] S Q := by
  unfold w_X5_block_214 at h
  refine zu_aload_n d_4009_214 rfl (zs_rr _) ?_
  refine zu_aload_n d_4009_215 rfl (zs_rr _) ?_
  obtain ⟨b1, e2, h⟩ := h
  refine zs_stk0 (zs_rfe e2) ?_
  obtain ⟨k3, h⟩ := h
  refine zg_4_252 rfl d_4009_216 k3 ?_
  refine zs_stk1 (zs_rfe e2) ?_
  obtain ⟨k4, h⟩ := h
  refine zp_4_262 (v := (zs_I S 10008 b1)) rfl d_4009_219 k3 k4 ?_
  generalize e6 : zs_sI S 10009 b1 (zs_I S 10008 b1) = S5
  have h := h S5 e6.symm
  have K7 : ∀ b, zs_K S5 b = zs_K S b := zs_Kt e6 (zs_KsI _ _ _ _) (fun _ => rfl)
  refine zu_aload_n d_4009_222 rfl (zs_rr _) ?_
  refine zu_aload_n d_4009_223 rfl (zs_ra _) ?_
  obtain ⟨k8, h⟩ := h
  refine zg_4_128 rfl d_4009_224 ((K7 _).trans k8) ?_
  obtain ⟨b9, e10, h⟩ := h
  refine zs_stk0 (zs_rfe e10) ?_
  obtain ⟨k11, h⟩ := h
  refine zg_4_265 rfl d_4009_227 ((K7 _).trans k11) ?_
  refine zs_stk1 (zs_rfe e2) ?_
  refine zp_4_267 (v := (zs_I S5 3001 b9)) rfl d_4009_230 ((K7 _).trans k3) k4 ?_
  generalize e13 : zs_sI S5 10010 b1 (zs_I S5 3001 b9) = S12
  have h := h S12 e13.symm
  have K14 : ∀ b, zs_K S12 b = zs_K S b := zs_Kt e13 (zs_KsI _ _ _ _) K7
  refine zu_aload_n d_4009_233 rfl (zs_ra _) ?_
  refine zu_bipush d_4009_234 zj_44 ?_
  refine zu_aload_n d_4009_236 rfl (zs_rr _) ?_
  refine zs_stk0 (zs_rfe e2) ?_
  refine zg_4_270 rfl d_4009_237 ((K14 _).trans k3) ?_
  refine zc_4_273 (x0 := (44 : Int32)) (x1 := (zs_I S12 10001 b1)) hB rfl ((K14 _).trans k8) d_4009_240 (Nat.le_of_ble_eq_true rfl) h (fun v16 S15 h => ?_)
  refine zu_pop d_4009_243 rfl ?_
  refine zu_iconst d_4009_244 zi_0 ?_
  refine zu_istore_n d_4009_245 (zs_lt zq_4009 rfl) ?_
  refine zs_U.weak (L1 := [(2, .int (0 : Int32)), (0, .ref p0), (1, va_rf p1)]) ?_ ⟨rfl, zs_gp1 rfl (Or.inl rfl) rfl, zs_gp1 rfl (Or.inl (zs_cat _)) rfl, trivial⟩
  exact h.weak ⟨rfl, rfl, rfl, trivial⟩
def w_X5_block_196 (X : zs_X) (d : Nat) (p0 : Nat) (p1 : Option Nat) (S : zs_T) (Q : zs_Q) : Prop :=
  (∃ b1, p1 = some b1 ∧ zs_K S b1 = some (.inl 10) ∧ ab_n0 X.1 ≤ b1 ∧ ∀ S5, S5 = zs_sI S 10008 b1 ((zs_I S 10008 b1) + (1 : Int32)) → ∃ b8, (zs_R S 10007 b1) = some b8 ∧ zs_K S b8 = some (.inl 7) ∧ ab_n0 X.1 ≤ b8 ∧ ∀ S12, S12 = zs_sI S5 7008 b8 (zs_I S 10008 b1) → w_X5_block_214 X d p0 p1 S12 Q)
theorem u_X5_block_196 {σ : Nat → Nat} {n0 : Nat} {bf : ab_B} {d : Nat} {p0 : Nat} {p1 : Option Nat} {S : zs_T} {Q : zs_Q} (hB : zt_B bf) (h : w_X5_block_196 (zx σ n0 bf) d p0 p1 S Q) : zs_U (zx σ n0 bf) d 4009 196 [(0, .ref p0), (1, va_rf p1)] [] S Q := by
  unfold w_X5_block_196 at h
  refine zu_aload_n d_4009_196 rfl (zs_rr _) ?_
  obtain ⟨b1, e2, h⟩ := h
  refine zs_stk0 (zs_rfe e2) ?_
  obtain ⟨k3, h⟩ := h
  refine zg_4_258 rfl d_4009_197 k3 ?_
  refine zu_aload_n d_4009_200 rfl (zs_rr _) ?_
  refine zu_dup d_4009_201 (zs_cat _) ?_
  refine zs_stk0 (zs_rfe e2) ?_
  refine zg_4_252 rfl d_4009_202 k3 ?_
  refine zu_dup_x1 d_4009_205 rfl (zs_cat _) ?_
  refine zu_iconst d_4009_206 zi_1 ?_
  refine zu_stk d_4009_207 rfl rfl ?_
  refine zs_stk1 (zs_rfe e2) ?_
  obtain ⟨k4, h⟩ := h
  refine zp_4_252 (v := ((zs_I S 10008 b1) + (1 : Int32))) rfl d_4009_208 k3 k4 ?_
  generalize e6 : zs_sI S 10008 b1 ((zs_I S 10008 b1) + (1 : Int32)) = S5
  have h := h S5 e6.symm
  have K7 : ∀ b, zs_K S5 b = zs_K S b := zs_Kt e6 (zs_KsI _ _ _ _) (fun _ => rfl)
  obtain ⟨b8, e9, h⟩ := h
  refine zs_stk1 (zs_rfe e9) ?_
  obtain ⟨k10, h⟩ := h
  obtain ⟨k11, h⟩ := h
  refine zp_4_104 (v := (zs_I S 10008 b1)) rfl d_4009_211 ((K7 _).trans k10) k11 ?_
  generalize e13 : zs_sI S5 7008 b8 (zs_I S 10008 b1) = S12
  have h := h S12 e13.symm
  have K14 : ∀ b, zs_K S12 b = zs_K S b := zs_Kt e13 (zs_KsI _ _ _ _) K7
  exact (u_X5_block_214 hB h).weak ⟨rfl, rfl, trivial⟩
def w_X5_block_164 (X : zs_X) (d : Nat) (p0 : Nat) (p1 : Option Nat) (p2 : Int32) (S : zs_T) (Q : zs_Q) : Prop :=
  (zs_U X d 4009 108 [(0, .ref p0), (1, va_rf p1), (2, .int (p2 + (1 : Int32)))] [] S Q)
theorem u_X5_block_164 {σ : Nat → Nat} {n0 : Nat} {bf : ab_B} {d : Nat} {p0 : Nat} {p1 : Option Nat} {p2 : Int32} {S : zs_T} {Q : zs_Q} (hB : zt_B bf) (h : w_X5_block_164 (zx σ n0 bf) d p0 p1 p2 S Q) : zs_U (zx σ n0 bf) d 4009 164 [(0, .ref p0), (1, va_rf p1), (2, .int p2)] [] S Q := by
  unfold w_X5_block_164 at h
  refine zu_iinc d_4009_164 rfl zi_1 (zs_lt zq_4009 rfl) ?_
  refine zs_U.weak (L1 := [(2, .int (p2 + (1 : Int32))), (0, .ref p0), (1, va_rf p1)]) ?_ ⟨rfl, zs_gp1 rfl (Or.inl rfl) rfl, zs_gp1 rfl (Or.inl (zs_cat _)) rfl, trivial⟩
  refine zu_goto (t := 108) d_4009_167 rfl ?_
  exact h.weak ⟨rfl, rfl, rfl, trivial⟩
def w_X5_block_157 (X : zs_X) (d : Nat) (p0 : Nat) (S : zs_T) (Q : zs_Q) : Prop :=
  (zs_K S p0 = some (.inl 4) ∧ zs_C X d 4006 [.ref p0, .int (10 : Int32)] S (zs_kR (fun v3 S2 => (∃ b4, v3 = some b4 ∧ Q (.threw b4) S2)) Q))
theorem u_X5_block_157 {σ : Nat → Nat} {n0 : Nat} {bf : ab_B} {d : Nat} {p0 : Nat} {S : zs_T} {Q : zs_Q} (hB : zt_B bf) (h : w_X5_block_157 (zx σ n0 bf) d p0 S Q) : zs_U (zx σ n0 bf) d 4009 157 [(0, .ref p0)] [] S Q := by
  unfold w_X5_block_157 at h
  refine zu_aload_n d_4009_157 rfl (zs_ra _) ?_
  refine zu_bipush d_4009_158 zj_10 ?_
  obtain ⟨k1, h⟩ := h
  refine zc_4_25 (x0 := (10 : Int32)) hB rfl k1 d_4009_160 (Nat.le_of_ble_eq_true rfl) h (fun v3 S2 h => ?_)
  obtain ⟨b4, e5, h⟩ := h
  refine zs_stk0 (zs_rfe e5) ?_
  exact zu_throw d_4009_163 h
def w_X5_block_108 (X : zs_X) (d : Nat) (p0 : Nat) (p1 : Option Nat) (p2 : Int32) (S : zs_T) (Q : zs_Q) : Prop :=
  (zs_K S p0 = some (.inl 4) ∧ ∃ b2, (zs_R S 4008 p0) = some b2 ∧ zs_K S b2 = some (.inl 16) ∧ zs_C X d 16001 [.ref b2] S (zs_kI (fun v6 S5 => (((v6 ≤ p2 → (∃ b8, p1 = some b8 ∧ zs_K S5 b8 = some (.inl 10) ∧ ∃ b11, (zs_R S5 10004 b8) = some b11 ∧ zs_K S5 b11 = some (.inl 16) ∧ zs_C X d 16001 [.ref b11] S5 (zs_kI (fun v15 S14 => (zs_K S14 b8 = some (.inl 10) ∧ ∃ b17, (zs_R S14 10005 b8) = some b17 ∧ zs_K S14 b17 = some (.inl 16) ∧ zs_C X d 16001 [.ref b17] S14 (zs_kI (fun v21 S20 => (zs_K S20 b8 = some (.inl 10) ∧ ab_n0 X.1 ≤ b8 ∧ ∀ S24, S24 = zs_sI S20 10008 b8 (v15 + v21) → (((zs_R S24 10006 b8) = none → w_X5_block_214 X d p0 p1 S24 Q) ∧ (∀ b27, (zs_R S24 10006 b8) = some b27 → w_X5_block_196 X d p0 p1 S24 Q)))) Q))) Q))) ∧ (¬ (v6 ≤ p2) → (zs_K S5 p0 = some (.inl 4) ∧ ∃ b30, (zs_R S5 4008 p0) = some b30 ∧ zs_K S5 b30 = some (.inl 16) ∧ zs_C X d 16009 [.ref b30, .int p2] S5 (zs_kR (fun v34 S33 => ((∀ a, v34 = some a → zs_K S33 a = some (.inl 7)) ∧ ∃ b36, v34 = some b36 ∧ zs_K S33 b36 = some (.inl 7) ∧ ((¬ (zs_I S33 7001 b36) = (3 : Int32) → w_X5_block_164 X d p0 p1 p2 S33 Q) ∧ (¬ (¬ (zs_I S33 7001 b36) = (3 : Int32)) → (zs_K S33 p0 = some (.inl 4) ∧ ∃ b41, (zs_R S33 4008 p0) = some b41 ∧ zs_K S33 b41 = some (.inl 16) ∧ zs_C X d 16009 [.ref b41, .int p2] S33 (zs_kR (fun v45 S44 => ((∀ a, v45 = some a → zs_K S44 a = some (.inl 7)) ∧ ∃ b47, v45 = some b47 ∧ zs_K S44 b47 = some (.inl 7) ∧ ∃ b50, (zs_R S44 7006 b47) = some b50 ∧ zs_K S44 b50 = some (.inl 10) ∧ (((zs_I S44 10011 b50) = 0 → w_X5_block_164 X d p0 p1 p2 S44 Q) ∧ (¬ ((zs_I S44 10011 b50) = 0) → w_X5_block_157 X d p0 S44 Q)))) Q)))))) Q)))))) Q))
theorem u_X5_block_108 {σ : Nat → Nat} {n0 : Nat} {bf : ab_B} {d : Nat} {p0 : Nat} {p1 : Option Nat} {p2 : Int32} {S : zs_T} {Q : zs_Q} (hB : zt_B bf) (h : w_X5_block_108 (zx σ n0 bf) d p0 p1 p2 S Q) : zs_U (zx σ n0 bf) d 4009 108 [(0, .ref p0), (1, va_rf p1), (2, .int p2)] [] S Q := by
  unfold w_X5_block_108 at h
  refine zu_iload_n d_4009_108 rfl ?_
  refine zu_aload_n d_4009_109 rfl (zs_ra _) ?_
  obtain ⟨k1, h⟩ := h
  refine zg_4_46 rfl d_4009_110 k1 ?_
  obtain ⟨b2, e3, h⟩ := h
  refine zs_stk0 (zs_rfe e3) ?_
  obtain ⟨k4, h⟩ := h
  refine zc_4_50  hB rfl k4 d_4009_113 (Nat.le_of_ble_eq_true rfl) h (fun v6 S5 h => ?_)
  refine zu_cmpge (t := 170) d_4009_116 rfl (fun c7 => ?_) (fun c7 => ?_)
  · have h := h.1 c7
    refine zu_aload_n d_4009_170 rfl (zs_rr _) ?_
    refine zu_aload_n d_4009_171 rfl (zs_rr _) ?_
    obtain ⟨b8, e9, h⟩ := h
    refine zs_stk0 (zs_rfe e9) ?_
    obtain ⟨k10, h⟩ := h
    refine zg_4_247 rfl d_4009_172 k10 ?_
    obtain ⟨b11, e12, h⟩ := h
    refine zs_stk0 (zs_rfe e12) ?_
    obtain ⟨k13, h⟩ := h
    refine zc_4_50  hB rfl k13 d_4009_175 (by simp only [List.map_cons, List.map_nil, List.sum_cons, List.sum_nil, zs_cat, zs_cI, zs_cJ, zs_cA]; exact Nat.le_of_ble_eq_true rfl) h (fun v15 S14 h => ?_)
    refine zu_aload_n d_4009_178 rfl (zs_rr _) ?_
    refine zs_stk0 (zs_rfe e9) ?_
    obtain ⟨k16, h⟩ := h
    refine zg_4_250 rfl d_4009_179 k16 ?_
    obtain ⟨b17, e18, h⟩ := h
    refine zs_stk0 (zs_rfe e18) ?_
    obtain ⟨k19, h⟩ := h
    refine zc_4_50  hB rfl k19 d_4009_182 (by simp only [List.map_cons, List.map_nil, List.sum_cons, List.sum_nil, zs_cat, zs_cI, zs_cJ, zs_cA]; exact Nat.le_of_ble_eq_true rfl) h (fun v21 S20 h => ?_)
    refine zu_stk d_4009_185 rfl rfl ?_
    refine zs_stk1 (zs_rfe e9) ?_
    obtain ⟨k22, h⟩ := h
    obtain ⟨k23, h⟩ := h
    refine zp_4_252 (v := (v15 + v21)) rfl d_4009_186 k22 k23 ?_
    generalize e25 : zs_sI S20 10008 b8 (v15 + v21) = S24
    have h := h S24 e25.symm
    have K26 : ∀ b, zs_K S24 b = zs_K S20 b := zs_Kt e25 (zs_KsI _ _ _ _) (fun _ => rfl)
    refine zu_aload_n d_4009_189 rfl (zs_rr _) ?_
    refine zs_stk0 (zs_rfe e9) ?_
    refine zg_4_255 rfl d_4009_190 ((K26 _).trans k22) ?_
    refine zu_ifnull (u := (zs_R S24 10006 b8)) (t := 214) d_4009_193 rfl rfl (fun e28 => ?_) (fun b27 e28 => ?_)
    · have h := h.1 e28
      exact (u_X5_block_214 hB h).weak ⟨rfl, rfl, trivial⟩
    · have h := h.2 b27 e28
      exact (u_X5_block_196 hB h).weak ⟨rfl, rfl, trivial⟩
  · have h := h.2 c7
    refine zu_aload_n d_4009_119 rfl (zs_ra _) ?_
    obtain ⟨k29, h⟩ := h
    refine zg_4_46 rfl d_4009_120 k29 ?_
    refine zu_iload_n d_4009_123 rfl ?_
    obtain ⟨b30, e31, h⟩ := h
    refine zs_stk1 (zs_rfe e31) ?_
    obtain ⟨k32, h⟩ := h
    refine zc_4_56 (x0 := p2) hB rfl k32 d_4009_124 (Nat.le_of_ble_eq_true rfl) h (fun v34 S33 h => ?_)
    obtain ⟨k35, h⟩ := h
    refine zk_4_60 (o := v34) rfl d_4009_127 k35 ?_
    obtain ⟨b36, e37, h⟩ := h
    refine zs_stk0 (zs_rfe e37) ?_
    obtain ⟨k38, h⟩ := h
    refine zg_4_62 rfl d_4009_130 k38 ?_
    refine zu_iconst d_4009_133 zi_3 ?_
    refine zu_cmpne (t := 164) d_4009_134 rfl (fun c39 => ?_) (fun c39 => ?_)
    · have h := h.1 c39
      exact (u_X5_block_164 hB h).weak ⟨rfl, rfl, rfl, trivial⟩
    · have h := h.2 c39
      refine zu_aload_n d_4009_137 rfl (zs_ra _) ?_
      obtain ⟨k40, h⟩ := h
      refine zg_4_46 rfl d_4009_138 k40 ?_
      refine zu_iload_n d_4009_141 rfl ?_
      obtain ⟨b41, e42, h⟩ := h
      refine zs_stk1 (zs_rfe e42) ?_
      obtain ⟨k43, h⟩ := h
      refine zc_4_56 (x0 := p2) hB rfl k43 d_4009_142 (Nat.le_of_ble_eq_true rfl) h (fun v45 S44 h => ?_)
      obtain ⟨k46, h⟩ := h
      refine zk_4_60 (o := v45) rfl d_4009_145 k46 ?_
      obtain ⟨b47, e48, h⟩ := h
      refine zs_stk0 (zs_rfe e48) ?_
      obtain ⟨k49, h⟩ := h
      refine zg_4_243 rfl d_4009_148 k49 ?_
      obtain ⟨b50, e51, h⟩ := h
      refine zs_stk0 (zs_rfe e51) ?_
      obtain ⟨k52, h⟩ := h
      refine zg_4_244 rfl d_4009_151 k52 ?_
      refine zu_ifeq (t := 164) d_4009_154 rfl (fun c53 => ?_) (fun c53 => ?_)
      · have h := h.1 c53
        exact (u_X5_block_164 hB h).weak ⟨rfl, rfl, rfl, trivial⟩
      · have h := h.2 c53
        exact (u_X5_block_157 hB h).weak ⟨rfl, trivial⟩
def w_X5_block_334 (X : zs_X) (d : Nat) (p0 : Nat) (p1 : Option Nat) (S : zs_T) (Q : zs_Q) : Prop :=
  (zs_K S p0 = some (.inl 4) ∧ ∃ b2, (zs_R S 4000 p0) = some b2 ∧ zs_K S b2 = some (.inl 5) ∧ zs_C X d 5004 [.ref b2] S (zs_kV (fun S5 => (∃ b7, p1 = some b7 ∧ zs_K S5 b7 = some (.inl 10) ∧ zs_K S5 p0 = some (.inl 4) ∧ zs_C X d 4094 [.ref p0, .int (46 : Int32), .int (zs_I S5 10001 b7)] S5 (zs_kI (fun v12 S11 => (Q (.returned none) S11)) Q))) Q))
theorem u_X5_block_334 {σ : Nat → Nat} {n0 : Nat} {bf : ab_B} {d : Nat} {p0 : Nat} {p1 : Option Nat} {S : zs_T} {Q : zs_Q} (hB : zt_B bf) (h : w_X5_block_334 (zx σ n0 bf) d p0 p1 S Q) : zs_U (zx σ n0 bf) d 4009 334 [(0, .ref p0), (1, va_rf p1)] [] S Q := by
  unfold w_X5_block_334 at h
  refine zu_aload_n d_4009_334 rfl (zs_ra _) ?_
  obtain ⟨k1, h⟩ := h
  refine zg_4_5 rfl d_4009_335 k1 ?_
  obtain ⟨b2, e3, h⟩ := h
  refine zs_stk0 (zs_rfe e3) ?_
  obtain ⟨k4, h⟩ := h
  refine zc_4_29  hB rfl k4 d_4009_338 (Nat.le_of_ble_eq_true rfl) h (fun S5 h => ?_)
  refine zu_aload_n d_4009_341 rfl (zs_ra _) ?_
  refine zu_bipush d_4009_342 zj_46 ?_
  refine zu_aload_n d_4009_344 rfl (zs_rr _) ?_
  obtain ⟨b7, e8, h⟩ := h
  refine zs_stk0 (zs_rfe e8) ?_
  obtain ⟨k9, h⟩ := h
  refine zg_4_270 rfl d_4009_345 k9 ?_
  obtain ⟨k10, h⟩ := h
  refine zc_4_273 (x0 := (46 : Int32)) (x1 := (zs_I S5 10001 b7)) hB rfl k10 d_4009_348 (Nat.le_of_ble_eq_true rfl) h (fun v12 S11 h => ?_)
  refine zu_pop d_4009_351 rfl ?_
  exact zu_vret d_4009_352 zr_4009 h
def w_X5_block_304 (X : zs_X) (d : Nat) (p0 : Nat) (p1 : Option Nat) (p2 : Int32) (S : zs_T) (Q : zs_Q) : Prop :=
  (zs_U X d 4009 246 [(0, .ref p0), (1, va_rf p1), (2, .int (p2 + (1 : Int32)))] [] S Q)
theorem u_X5_block_304 {σ : Nat → Nat} {n0 : Nat} {bf : ab_B} {d : Nat} {p0 : Nat} {p1 : Option Nat} {p2 : Int32} {S : zs_T} {Q : zs_Q} (hB : zt_B bf) (h : w_X5_block_304 (zx σ n0 bf) d p0 p1 p2 S Q) : zs_U (zx σ n0 bf) d 4009 304 [(0, .ref p0), (1, va_rf p1), (2, .int p2)] [] S Q := by
  unfold w_X5_block_304 at h
  refine zu_iinc d_4009_304 rfl zi_1 (zs_lt zq_4009 rfl) ?_
  refine zs_U.weak (L1 := [(2, .int (p2 + (1 : Int32))), (0, .ref p0), (1, va_rf p1)]) ?_ ⟨rfl, zs_gp1 rfl (Or.inl rfl) rfl, zs_gp1 rfl (Or.inl (zs_cat _)) rfl, trivial⟩
  refine zu_goto (t := 246) d_4009_307 rfl ?_
  exact h.weak ⟨rfl, rfl, rfl, trivial⟩
def w_X5_block_289 (X : zs_X) (d : Nat) (p0 : Nat) (p1 : Option Nat) (p2 : Int32) (S : zs_T) (Q : zs_Q) : Prop :=
  (∃ b1, p1 = some b1 ∧ zs_K S b1 = some (.inl 10) ∧ ∃ b4, (zs_R S 10005 b1) = some b4 ∧ zs_K S b4 = some (.inl 16) ∧ zs_C X d 16009 [.ref b4, .int p2] S (zs_kR (fun v8 S7 => ((∀ a, v8 = some a → zs_K S7 a = some (.inl 7)) ∧ zs_K S7 p0 = some (.inl 4) ∧ zs_C X d 4104 [.ref p0, va_rf v8] S7 (zs_kV (fun S11 => w_X5_block_304 X d p0 p1 p2 S11 Q) Q))) Q))
theorem u_X5_block_289 {σ : Nat → Nat} {n0 : Nat} {bf : ab_B} {d : Nat} {p0 : Nat} {p1 : Option Nat} {p2 : Int32} {S : zs_T} {Q : zs_Q} (hB : zt_B bf) (h : w_X5_block_289 (zx σ n0 bf) d p0 p1 p2 S Q) : zs_U (zx σ n0 bf) d 4009 289 [(0, .ref p0), (1, va_rf p1), (2, .int p2)] [] S Q := by
  unfold w_X5_block_289 at h
  refine zu_aload_n d_4009_289 rfl (zs_ra _) ?_
  refine zu_aload_n d_4009_290 rfl (zs_rr _) ?_
  obtain ⟨b1, e2, h⟩ := h
  refine zs_stk0 (zs_rfe e2) ?_
  obtain ⟨k3, h⟩ := h
  refine zg_4_250 rfl d_4009_291 k3 ?_
  refine zu_iload_n d_4009_294 rfl ?_
  obtain ⟨b4, e5, h⟩ := h
  refine zs_stk1 (zs_rfe e5) ?_
  obtain ⟨k6, h⟩ := h
  refine zc_4_56 (x0 := p2) hB rfl k6 d_4009_295 (Nat.le_of_ble_eq_true rfl) h (fun v8 S7 h => ?_)
  obtain ⟨k9, h⟩ := h
  refine zk_4_60 (o := v8) rfl d_4009_298 k9 ?_
  obtain ⟨k10, h⟩ := h
  refine zc_4_284 (x0 := v8) hB rfl k10 d_4009_301 (Nat.le_of_ble_eq_true rfl) h (fun S11 h => ?_)
  exact (u_X5_block_304 hB h).weak ⟨rfl, rfl, rfl, trivial⟩
def w_X5_block_246 (X : zs_X) (d : Nat) (p0 : Nat) (p1 : Option Nat) (p2 : Int32) (S : zs_T) (Q : zs_Q) : Prop :=
  (∃ b1, p1 = some b1 ∧ zs_K S b1 = some (.inl 10) ∧ ∃ b4, (zs_R S 10005 b1) = some b4 ∧ zs_K S b4 = some (.inl 16) ∧ zs_C X d 16001 [.ref b4] S (zs_kI (fun v8 S7 => (((v8 ≤ p2 → (zs_K S7 b1 = some (.inl 10) ∧ zs_K S7 p0 = some (.inl 4) ∧ zs_C X d 4094 [.ref p0, .int (45 : Int32), .int (zs_I S7 10001 b1)] S7 (zs_kI (fun v13 S12 => (zs_K S12 p0 = some (.inl 4) ∧ ∃ b15, (zs_R S12 4000 p0) = some b15 ∧ zs_K S12 b15 = some (.inl 5) ∧ zs_C X d 5004 [.ref b15] S12 (zs_kV (fun S18 => (zs_K S18 p0 = some (.inl 4) ∧ zs_C X d 4105 [.ref p0, .int (8 : Int32)] S18 (zs_kV (fun S21 => w_X5_block_334 X d p0 p1 S21 Q) Q))) Q))) Q))) ∧ (¬ (v8 ≤ p2) → (zs_K S7 b1 = some (.inl 10) ∧ ∃ b24, (zs_R S7 10005 b1) = some b24 ∧ zs_K S7 b24 = some (.inl 16) ∧ zs_C X d 16009 [.ref b24, .int p2] S7 (zs_kR (fun v28 S27 => ((∀ a, v28 = some a → zs_K S27 a = some (.inl 7)) ∧ zs_K S27 p0 = some (.inl 4) ∧ zs_C X d 4095 [.ref p0, va_rf v28] S27 (zs_kV (fun S31 => (zs_K S31 b1 = some (.inl 10) ∧ ∃ b34, (zs_R S31 10005 b1) = some b34 ∧ zs_K S31 b34 = some (.inl 16) ∧ zs_C X d 16009 [.ref b34, .int p2] S31 (zs_kR (fun v38 S37 => ((∀ a, v38 = some a → zs_K S37 a = some (.inl 7)) ∧ ∃ b40, v38 = some b40 ∧ zs_K S37 b40 = some (.inl 7) ∧ (((zs_I S37 7011 b40) = 0 → w_X5_block_304 X d p0 p1 p2 S37 Q) ∧ (¬ ((zs_I S37 7011 b40) = 0) → w_X5_block_289 X d p0 p1 p2 S37 Q)))) Q))) Q))) Q)))))) Q))
theorem u_X5_block_246 {σ : Nat → Nat} {n0 : Nat} {bf : ab_B} {d : Nat} {p0 : Nat} {p1 : Option Nat} {p2 : Int32} {S : zs_T} {Q : zs_Q} (hB : zt_B bf) (h : w_X5_block_246 (zx σ n0 bf) d p0 p1 p2 S Q) : zs_U (zx σ n0 bf) d 4009 246 [(0, .ref p0), (1, va_rf p1), (2, .int p2)] [] S Q := by
  unfold w_X5_block_246 at h
  refine zu_iload_n d_4009_246 rfl ?_
  refine zu_aload_n d_4009_247 rfl (zs_rr _) ?_
  obtain ⟨b1, e2, h⟩ := h
  refine zs_stk0 (zs_rfe e2) ?_
  obtain ⟨k3, h⟩ := h
  refine zg_4_250 rfl d_4009_248 k3 ?_
  obtain ⟨b4, e5, h⟩ := h
  refine zs_stk0 (zs_rfe e5) ?_
  obtain ⟨k6, h⟩ := h
  refine zc_4_50  hB rfl k6 d_4009_251 (Nat.le_of_ble_eq_true rfl) h (fun v8 S7 h => ?_)
  refine zu_cmpge (t := 310) d_4009_254 rfl (fun c9 => ?_) (fun c9 => ?_)
  · have h := h.1 c9
    refine zu_aload_n d_4009_310 rfl (zs_ra _) ?_
    refine zu_bipush d_4009_311 zj_45 ?_
    refine zu_aload_n d_4009_313 rfl (zs_rr _) ?_
    refine zs_stk0 (zs_rfe e2) ?_
    obtain ⟨k10, h⟩ := h
    refine zg_4_270 rfl d_4009_314 k10 ?_
    obtain ⟨k11, h⟩ := h
    refine zc_4_273 (x0 := (45 : Int32)) (x1 := (zs_I S7 10001 b1)) hB rfl k11 d_4009_317 (Nat.le_of_ble_eq_true rfl) h (fun v13 S12 h => ?_)
    refine zu_pop d_4009_320 rfl ?_
    refine zu_aload_n d_4009_321 rfl (zs_ra _) ?_
    obtain ⟨k14, h⟩ := h
    refine zg_4_5 rfl d_4009_322 k14 ?_
    obtain ⟨b15, e16, h⟩ := h
    refine zs_stk0 (zs_rfe e16) ?_
    obtain ⟨k17, h⟩ := h
    refine zc_4_29  hB rfl k17 d_4009_325 (Nat.le_of_ble_eq_true rfl) h (fun S18 h => ?_)
    refine zu_aload_n d_4009_328 rfl (zs_ra _) ?_
    refine zu_bipush d_4009_329 zj_8 ?_
    obtain ⟨k20, h⟩ := h
    refine zc_4_287 (x0 := (8 : Int32)) hB rfl k20 d_4009_331 (Nat.le_of_ble_eq_true rfl) h (fun S21 h => ?_)
    exact (u_X5_block_334 hB h).weak ⟨rfl, rfl, trivial⟩
  · have h := h.2 c9
    refine zu_aload_n d_4009_257 rfl (zs_ra _) ?_
    refine zu_aload_n d_4009_258 rfl (zs_rr _) ?_
    refine zs_stk0 (zs_rfe e2) ?_
    obtain ⟨k23, h⟩ := h
    refine zg_4_250 rfl d_4009_259 k23 ?_
    refine zu_iload_n d_4009_262 rfl ?_
    obtain ⟨b24, e25, h⟩ := h
    refine zs_stk1 (zs_rfe e25) ?_
    obtain ⟨k26, h⟩ := h
    refine zc_4_56 (x0 := p2) hB rfl k26 d_4009_263 (Nat.le_of_ble_eq_true rfl) h (fun v28 S27 h => ?_)
    obtain ⟨k29, h⟩ := h
    refine zk_4_60 (o := v28) rfl d_4009_266 k29 ?_
    obtain ⟨k30, h⟩ := h
    refine zc_4_277 (x0 := v28) hB rfl k30 d_4009_269 (Nat.le_of_ble_eq_true rfl) h (fun S31 h => ?_)
    refine zu_aload_n d_4009_272 rfl (zs_rr _) ?_
    refine zs_stk0 (zs_rfe e2) ?_
    obtain ⟨k33, h⟩ := h
    refine zg_4_250 rfl d_4009_273 k33 ?_
    refine zu_iload_n d_4009_276 rfl ?_
    obtain ⟨b34, e35, h⟩ := h
    refine zs_stk1 (zs_rfe e35) ?_
    obtain ⟨k36, h⟩ := h
    refine zc_4_56 (x0 := p2) hB rfl k36 d_4009_277 (Nat.le_of_ble_eq_true rfl) h (fun v38 S37 h => ?_)
    obtain ⟨k39, h⟩ := h
    refine zk_4_60 (o := v38) rfl d_4009_280 k39 ?_
    obtain ⟨b40, e41, h⟩ := h
    refine zs_stk0 (zs_rfe e41) ?_
    obtain ⟨k42, h⟩ := h
    refine zg_4_281 rfl d_4009_283 k42 ?_
    refine zu_ifeq (t := 304) d_4009_286 rfl (fun c43 => ?_) (fun c43 => ?_)
    · have h := h.1 c43
      exact (u_X5_block_304 hB h).weak ⟨rfl, rfl, rfl, trivial⟩
    · have h := h.2 c43
      exact (u_X5_block_289 hB h).weak ⟨rfl, rfl, rfl, trivial⟩
def w_X5_block (X : zs_X) (d : Nat) (p0 : Nat) (p1 : Option Nat) (S : zs_T) (Q : zs_Q) : Prop :=
  zs_U X d 4009 0 [(0, .ref p0), (1, va_rf p1)] [] S Q
theorem u_X5_block {σ : Nat → Nat} {n0 : Nat} {bf : ab_B} {d : Nat} {p0 : Nat} {p1 : Option Nat} {S : zs_T} {Q : zs_Q} (hB : zt_B bf) (hd : 1 ≤ d) (h : w_X5_block (zx σ n0 bf) (d - 1) p0 p1 S Q) : zs_C (zx σ n0 bf) d 4009 [.ref p0, va_rf p1] S Q := by
  have hL : lv_args 0 [.ref p0, va_rf p1] = [(0, .ref p0), (1, va_rf p1)] := by simp [lv_args, zs_cat, zs_cI, zs_cJ, zs_cA]
  refine zs_C.of1 (hB.2 4009 (by decide) (by decide)) hd (by rw [hL]; exact zs_sub_self _ (by exact ⟨rfl, rfl, trivial⟩)) ?_
  rw [hL]
  clear hL
  unfold w_X5_block at h
  exact h.weak ⟨rfl, rfl, trivial⟩
/-! SchemaPascal$Reader.constants()V -/
theorem zm_4010 {σ : Nat → Nat} {n0 : Nat} {bf : ab_B} : ab_code (zx σ n0 bf).1 4010 = prog_9_method_15_code := rfl
theorem zq_4010 {σ : Nat → Nat} {n0 : Nat} {bf : ab_B} : ab_maxL (zx σ n0 bf).1 4010 = 4 := rfl
theorem zr_4010 {σ : Nat → Nat} {n0 : Nat} {bf : ab_B} : ab_ret (zx σ n0 bf).1 4010 = (Option.none : Option Jvm.ClassFile.FieldType) := rfl
theorem d_4010_0 {σ : Nat → Nat} {n0 : Nat} {bf : ab_B} : decode (ab_code (zx σ n0 bf).1 4010) 0 = .ok (.aload_n 0, 1) := zd zm_4010 (by decide +kernel)
theorem d_4010_1 {σ : Nat → Nat} {n0 : Nat} {bf : ab_B} : decode (ab_code (zx σ n0 bf).1 4010) 1 = .ok (.getfield 5, 3) := zd zm_4010 (by decide +kernel)
theorem d_4010_4 {σ : Nat → Nat} {n0 : Nat} {bf : ab_B} : decode (ab_code (zx σ n0 bf).1 4010) 4 = .ok (.invokevirtual 29, 3) := zd zm_4010 (by decide +kernel)
theorem d_4010_7 {σ : Nat → Nat} {n0 : Nat} {bf : ab_B} : decode (ab_code (zx σ n0 bf).1 4010) 7 = .ok (.aload_n 0, 1) := zd zm_4010 (by decide +kernel)
theorem d_4010_8 {σ : Nat → Nat} {n0 : Nat} {bf : ab_B} : decode (ab_code (zx σ n0 bf).1 4010) 8 = .ok (.invokevirtual 290, 3) := zd zm_4010 (by decide +kernel)
theorem d_4010_11 {σ : Nat → Nat} {n0 : Nat} {bf : ab_B} : decode (ab_code (zx σ n0 bf).1 4010) 11 = .ok (.istore_n 1, 1) := zd zm_4010 (by decide +kernel)
theorem d_4010_12 {σ : Nat → Nat} {n0 : Nat} {bf : ab_B} : decode (ab_code (zx σ n0 bf).1 4010) 12 = .ok (.aload_n 0, 1) := zd zm_4010 (by decide +kernel)
theorem d_4010_13 {σ : Nat → Nat} {n0 : Nat} {bf : ab_B} : decode (ab_code (zx σ n0 bf).1 4010) 13 = .ok (.bipush 61, 2) := zd zm_4010 (by decide +kernel)
theorem d_4010_15 {σ : Nat → Nat} {n0 : Nat} {bf : ab_B} : decode (ab_code (zx σ n0 bf).1 4010) 15 = .ok (.invokevirtual 224, 3) := zd zm_4010 (by decide +kernel)
theorem d_4010_18 {σ : Nat → Nat} {n0 : Nat} {bf : ab_B} : decode (ab_code (zx σ n0 bf).1 4010) 18 = .ok (.aload_n 0, 1) := zd zm_4010 (by decide +kernel)
theorem d_4010_19 {σ : Nat → Nat} {n0 : Nat} {bf : ab_B} : decode (ab_code (zx σ n0 bf).1 4010) 19 = .ok (.invokevirtual 293, 3) := zd zm_4010 (by decide +kernel)
theorem d_4010_22 {σ : Nat → Nat} {n0 : Nat} {bf : ab_B} : decode (ab_code (zx σ n0 bf).1 4010) 22 = .ok (.astore_n 2, 1) := zd zm_4010 (by decide +kernel)
theorem d_4010_23 {σ : Nat → Nat} {n0 : Nat} {bf : ab_B} : decode (ab_code (zx σ n0 bf).1 4010) 23 = .ok (.aload_n 0, 1) := zd zm_4010 (by decide +kernel)
theorem d_4010_24 {σ : Nat → Nat} {n0 : Nat} {bf : ab_B} : decode (ab_code (zx σ n0 bf).1 4010) 24 = .ok (.iload_n 1, 1) := zd zm_4010 (by decide +kernel)
theorem d_4010_25 {σ : Nat → Nat} {n0 : Nat} {bf : ab_B} : decode (ab_code (zx σ n0 bf).1 4010) 25 = .ok (.iconst 0, 1) := zd zm_4010 (by decide +kernel)
theorem d_4010_26 {σ : Nat → Nat} {n0 : Nat} {bf : ab_B} : decode (ab_code (zx σ n0 bf).1 4010) 26 = .ok (.aload_n 2, 1) := zd zm_4010 (by decide +kernel)
theorem d_4010_27 {σ : Nat → Nat} {n0 : Nat} {bf : ab_B} : decode (ab_code (zx σ n0 bf).1 4010) 27 = .ok (.getfield 297, 3) := zd zm_4010 (by decide +kernel)
theorem d_4010_30 {σ : Nat → Nat} {n0 : Nat} {bf : ab_B} : decode (ab_code (zx σ n0 bf).1 4010) 30 = .ok (.invokevirtual 165, 3) := zd zm_4010 (by decide +kernel)
theorem d_4010_33 {σ : Nat → Nat} {n0 : Nat} {bf : ab_B} : decode (ab_code (zx σ n0 bf).1 4010) 33 = .ok (.astore_n 3, 1) := zd zm_4010 (by decide +kernel)
theorem d_4010_34 {σ : Nat → Nat} {n0 : Nat} {bf : ab_B} : decode (ab_code (zx σ n0 bf).1 4010) 34 = .ok (.aload_n 3, 1) := zd zm_4010 (by decide +kernel)
theorem d_4010_35 {σ : Nat → Nat} {n0 : Nat} {bf : ab_B} : decode (ab_code (zx σ n0 bf).1 4010) 35 = .ok (.aload_n 2, 1) := zd zm_4010 (by decide +kernel)
theorem d_4010_36 {σ : Nat → Nat} {n0 : Nat} {bf : ab_B} : decode (ab_code (zx σ n0 bf).1 4010) 36 = .ok (.getfield 300, 3) := zd zm_4010 (by decide +kernel)
theorem d_4010_39 {σ : Nat → Nat} {n0 : Nat} {bf : ab_B} : decode (ab_code (zx σ n0 bf).1 4010) 39 = .ok (.putfield 168, 3) := zd zm_4010 (by decide +kernel)
theorem d_4010_42 {σ : Nat → Nat} {n0 : Nat} {bf : ab_B} : decode (ab_code (zx σ n0 bf).1 4010) 42 = .ok (.aload_n 3, 1) := zd zm_4010 (by decide +kernel)
theorem d_4010_43 {σ : Nat → Nat} {n0 : Nat} {bf : ab_B} : decode (ab_code (zx σ n0 bf).1 4010) 43 = .ok (.aload_n 2, 1) := zd zm_4010 (by decide +kernel)
theorem d_4010_44 {σ : Nat → Nat} {n0 : Nat} {bf : ab_B} : decode (ab_code (zx σ n0 bf).1 4010) 44 = .ok (.getfield 301, 3) := zd zm_4010 (by decide +kernel)
theorem d_4010_47 {σ : Nat → Nat} {n0 : Nat} {bf : ab_B} : decode (ab_code (zx σ n0 bf).1 4010) 47 = .ok (.putfield 302, 3) := zd zm_4010 (by decide +kernel)
theorem d_4010_50 {σ : Nat → Nat} {n0 : Nat} {bf : ab_B} : decode (ab_code (zx σ n0 bf).1 4010) 50 = .ok (.aload_n 3, 1) := zd zm_4010 (by decide +kernel)
theorem d_4010_51 {σ : Nat → Nat} {n0 : Nat} {bf : ab_B} : decode (ab_code (zx σ n0 bf).1 4010) 51 = .ok (.aload_n 2, 1) := zd zm_4010 (by decide +kernel)
theorem d_4010_52 {σ : Nat → Nat} {n0 : Nat} {bf : ab_B} : decode (ab_code (zx σ n0 bf).1 4010) 52 = .ok (.getfield 303, 3) := zd zm_4010 (by decide +kernel)
theorem d_4010_55 {σ : Nat → Nat} {n0 : Nat} {bf : ab_B} : decode (ab_code (zx σ n0 bf).1 4010) 55 = .ok (.putfield 306, 3) := zd zm_4010 (by decide +kernel)
theorem d_4010_58 {σ : Nat → Nat} {n0 : Nat} {bf : ab_B} : decode (ab_code (zx σ n0 bf).1 4010) 58 = .ok (.aload_n 0, 1) := zd zm_4010 (by decide +kernel)
theorem d_4010_59 {σ : Nat → Nat} {n0 : Nat} {bf : ab_B} : decode (ab_code (zx σ n0 bf).1 4010) 59 = .ok (.bipush 59, 2) := zd zm_4010 (by decide +kernel)
theorem d_4010_61 {σ : Nat → Nat} {n0 : Nat} {bf : ab_B} : decode (ab_code (zx σ n0 bf).1 4010) 61 = .ok (.invokevirtual 224, 3) := zd zm_4010 (by decide +kernel)
theorem d_4010_64 {σ : Nat → Nat} {n0 : Nat} {bf : ab_B} : decode (ab_code (zx σ n0 bf).1 4010) 64 = .ok (.aload_n 0, 1) := zd zm_4010 (by decide +kernel)
theorem d_4010_65 {σ : Nat → Nat} {n0 : Nat} {bf : ab_B} : decode (ab_code (zx σ n0 bf).1 4010) 65 = .ok (.getfield 5, 3) := zd zm_4010 (by decide +kernel)
theorem d_4010_68 {σ : Nat → Nat} {n0 : Nat} {bf : ab_B} : decode (ab_code (zx σ n0 bf).1 4010) 68 = .ok (.invokevirtual 36, 3) := zd zm_4010 (by decide +kernel)
theorem d_4010_71 {σ : Nat → Nat} {n0 : Nat} {bf : ab_B} : decode (ab_code (zx σ n0 bf).1 4010) 71 = .ok (.ifCond .ne (-64), 3) := zd zm_4010 (by decide +kernel)
theorem d_4010_74 {σ : Nat → Nat} {n0 : Nat} {bf : ab_B} : decode (ab_code (zx σ n0 bf).1 4010) 74 = .ok (.return_, 1) := zd zm_4010 (by decide +kernel)
def w_X5_constants_74 (X : zs_X) (d : Nat)  (S : zs_T) (Q : zs_Q) : Prop :=
  (Q (.returned none) S)
theorem u_X5_constants_74 {σ : Nat → Nat} {n0 : Nat} {bf : ab_B} {d : Nat}  {S : zs_T} {Q : zs_Q} (hB : zt_B bf) (h : w_X5_constants_74 (zx σ n0 bf) d  S Q) : zs_U (zx σ n0 bf) d 4010 74 [] [] S Q := by
  unfold w_X5_constants_74 at h
  exact zu_vret d_4010_74 zr_4010 h
def w_X5_constants_34 (X : zs_X) (d : Nat) (p0 : Nat) (p2 : Option Nat) (p3 : Option Nat) (S : zs_T) (Q : zs_Q) : Prop :=
  (∃ b1, p2 = some b1 ∧ zs_K S b1 = some (.inl 11) ∧ ∃ b4, p3 = some b4 ∧ zs_K S b4 = some (.inl 7) ∧ ab_n0 X.1 ≤ b4 ∧ ∀ S8, S8 = zs_sJ S 7003 b4 (zs_J S 11004 b1) → ∀ S11, S11 = zs_sI S8 7004 b4 (zs_I S8 11011 b1) → ∀ S14, S14 = zs_sI S11 7005 b4 (zs_I S11 11012 b1) → zs_K S p0 = some (.inl 4) ∧ zs_C X d 4008 [.ref p0, .int (59 : Int32)] S14 (zs_kV (fun S18 => (zs_K S18 p0 = some (.inl 4) ∧ ∃ b21, (zs_R S18 4000 p0) = some b21 ∧ zs_K S18 b21 = some (.inl 5) ∧ zs_C X d 5016 [.ref b21] S18 (zs_kI (fun v25 S24 => (((¬ v25 = 0 → zs_U X d 4010 7 [(0, .ref p0)] [] S24 Q) ∧ (¬ (¬ v25 = 0) → w_X5_constants_74 X d  S24 Q)))) Q))) Q))
theorem u_X5_constants_34 {σ : Nat → Nat} {n0 : Nat} {bf : ab_B} {d : Nat} {p0 : Nat} {p2 : Option Nat} {p3 : Option Nat} {S : zs_T} {Q : zs_Q} (hB : zt_B bf) (h : w_X5_constants_34 (zx σ n0 bf) d p0 p2 p3 S Q) : zs_U (zx σ n0 bf) d 4010 34 [(0, .ref p0), (2, va_rf p2), (3, va_rf p3)] [] S Q := by
  unfold w_X5_constants_34 at h
  refine zu_aload_n d_4010_34 rfl (zs_rr _) ?_
  refine zu_aload_n d_4010_35 rfl (zs_rr _) ?_
  obtain ⟨b1, e2, h⟩ := h
  refine zs_stk0 (zs_rfe e2) ?_
  obtain ⟨k3, h⟩ := h
  refine zg_4_300 rfl d_4010_36 k3 ?_
  obtain ⟨b4, e5, h⟩ := h
  refine zs_stk1 (zs_rfe e5) ?_
  obtain ⟨k6, h⟩ := h
  obtain ⟨k7, h⟩ := h
  refine zp_4_168 (v := (zs_J S 11004 b1)) rfl d_4010_39 k6 k7 ?_
  generalize e9 : zs_sJ S 7003 b4 (zs_J S 11004 b1) = S8
  have h := h S8 e9.symm
  have K10 : ∀ b, zs_K S8 b = zs_K S b := zs_Kt e9 (zs_KsJ _ _ _ _) (fun _ => rfl)
  refine zu_aload_n d_4010_42 rfl (zs_rr _) ?_
  refine zu_aload_n d_4010_43 rfl (zs_rr _) ?_
  refine zs_stk0 (zs_rfe e2) ?_
  refine zg_4_301 rfl d_4010_44 ((K10 _).trans k3) ?_
  refine zs_stk1 (zs_rfe e5) ?_
  refine zp_4_302 (v := (zs_I S8 11011 b1)) rfl d_4010_47 ((K10 _).trans k6) k7 ?_
  generalize e12 : zs_sI S8 7004 b4 (zs_I S8 11011 b1) = S11
  have h := h S11 e12.symm
  have K13 : ∀ b, zs_K S11 b = zs_K S b := zs_Kt e12 (zs_KsI _ _ _ _) K10
  refine zu_aload_n d_4010_50 rfl (zs_rr _) ?_
  refine zu_aload_n d_4010_51 rfl (zs_rr _) ?_
  refine zs_stk0 (zs_rfe e2) ?_
  refine zg_4_303 rfl d_4010_52 ((K13 _).trans k3) ?_
  refine zs_stk1 (zs_rfe e5) ?_
  refine zp_4_306 (v := (zs_I S11 11012 b1)) rfl d_4010_55 ((K13 _).trans k6) k7 ?_
  generalize e15 : zs_sI S11 7005 b4 (zs_I S11 11012 b1) = S14
  have h := h S14 e15.symm
  have K16 : ∀ b, zs_K S14 b = zs_K S b := zs_Kt e15 (zs_KsI _ _ _ _) K13
  refine zu_aload_n d_4010_58 rfl (zs_ra _) ?_
  refine zu_bipush d_4010_59 zj_59 ?_
  obtain ⟨k17, h⟩ := h
  refine zc_4_224 (x0 := (59 : Int32)) hB rfl ((K16 _).trans k17) d_4010_61 (Nat.le_of_ble_eq_true rfl) h (fun S18 h => ?_)
  refine zu_aload_n d_4010_64 rfl (zs_ra _) ?_
  obtain ⟨k20, h⟩ := h
  refine zg_4_5 rfl d_4010_65 k20 ?_
  obtain ⟨b21, e22, h⟩ := h
  refine zs_stk0 (zs_rfe e22) ?_
  obtain ⟨k23, h⟩ := h
  refine zc_4_36  hB rfl k23 d_4010_68 (Nat.le_of_ble_eq_true rfl) h (fun v25 S24 h => ?_)
  refine zu_ifne (t := 7) d_4010_71 rfl (fun c26 => ?_) (fun c26 => ?_)
  · have h := h.1 c26
    exact h.weak ⟨rfl, trivial⟩
  · have h := h.2 c26
    exact (u_X5_constants_74 hB h).weak trivial
def w_X5_constants_7 (X : zs_X) (d : Nat) (p0 : Nat) (S : zs_T) (Q : zs_Q) : Prop :=
  (zs_K S p0 = some (.inl 4) ∧ zs_C X d 4011 [.ref p0] S (zs_kI (fun v3 S2 => (zs_K S2 p0 = some (.inl 4) ∧ zs_C X d 4008 [.ref p0, .int (61 : Int32)] S2 (zs_kV (fun S5 => (zs_K S5 p0 = some (.inl 4) ∧ zs_C X d 4013 [.ref p0] S5 (zs_kR (fun v9 S8 => (∃ b10, v9 = some b10 ∧ zs_K S8 b10 = some (.inl 11) ∧ zs_K S8 p0 = some (.inl 4) ∧ zs_C X d 4003 [.ref p0, .int v3, .int (0 : Int32), va_rf (zs_R S8 11002 b10)] S8 (zs_kR (fun v15 S14 => (w_X5_constants_34 X d p0 v9 v15 S14 Q)) Q))) Q))) Q))) Q))
theorem u_X5_constants_7 {σ : Nat → Nat} {n0 : Nat} {bf : ab_B} {d : Nat} {p0 : Nat} {S : zs_T} {Q : zs_Q} (hB : zt_B bf) (h : w_X5_constants_7 (zx σ n0 bf) d p0 S Q) : zs_U (zx σ n0 bf) d 4010 7 [(0, .ref p0)] [] S Q := by
  unfold w_X5_constants_7 at h
  refine zu_aload_n d_4010_7 rfl (zs_ra _) ?_
  obtain ⟨k1, h⟩ := h
  refine zc_4_290  hB rfl k1 d_4010_8 (Nat.le_of_ble_eq_true rfl) h (fun v3 S2 h => ?_)
  refine zu_istore_n d_4010_11 (zs_lt zq_4010 rfl) ?_
  refine zu_aload_n d_4010_12 rfl (zs_ra _) ?_
  refine zu_bipush d_4010_13 zj_61 ?_
  obtain ⟨k4, h⟩ := h
  refine zc_4_224 (x0 := (61 : Int32)) hB rfl k4 d_4010_15 (Nat.le_of_ble_eq_true rfl) h (fun S5 h => ?_)
  refine zu_aload_n d_4010_18 rfl (zs_ra _) ?_
  obtain ⟨k7, h⟩ := h
  refine zc_4_293  hB rfl k7 d_4010_19 (Nat.le_of_ble_eq_true rfl) h (fun v9 S8 h => ?_)
  refine zu_astore_n d_4010_22 (zs_rr _) (zs_lt zq_4010 rfl) ?_
  refine zu_aload_n d_4010_23 rfl (zs_ra _) ?_
  refine zu_iload_n d_4010_24 rfl ?_
  refine zu_iconst d_4010_25 zi_0 ?_
  refine zu_aload_n d_4010_26 rfl (zs_rr _) ?_
  obtain ⟨b10, e11, h⟩ := h
  refine zs_stk0 (zs_rfe e11) ?_
  obtain ⟨k12, h⟩ := h
  refine zg_4_297 rfl d_4010_27 k12 ?_
  obtain ⟨k13, h⟩ := h
  refine zc_4_165 (x0 := v3) (x1 := (0 : Int32)) (x2 := (zs_R S8 11002 b10)) hB rfl k13 d_4010_30 (Nat.le_of_ble_eq_true rfl) h (fun v15 S14 h => ?_)
  refine zu_astore_n d_4010_33 (zs_rr _) (zs_lt zq_4010 rfl) ?_
  refine zs_U.weak (L1 := [(3, va_rf v15), (0, .ref p0), (1, .int v3), (2, va_rf v9)]) ?_ ⟨rfl, zs_gp1 rfl (Or.inl rfl) rfl, zs_gp1 rfl (Or.inl rfl) rfl, zs_gp1 rfl (Or.inl (zs_cat _)) rfl, trivial⟩
  exact (u_X5_constants_34 hB h).weak ⟨rfl, rfl, rfl, trivial⟩
def w_X5_constants (X : zs_X) (d : Nat) (p0 : Nat) (S : zs_T) (Q : zs_Q) : Prop :=
  (zs_K S p0 = some (.inl 4) ∧ ∃ b2, (zs_R S 4000 p0) = some b2 ∧ zs_K S b2 = some (.inl 5) ∧ zs_C X d 5004 [.ref b2] S (zs_kV (fun S5 => zs_U X d 4010 7 [(0, .ref p0)] [] S5 Q) Q))
theorem u_X5_constants {σ : Nat → Nat} {n0 : Nat} {bf : ab_B} {d : Nat} {p0 : Nat} {S : zs_T} {Q : zs_Q} (hB : zt_B bf) (hd : 1 ≤ d) (h : w_X5_constants (zx σ n0 bf) (d - 1) p0 S Q) : zs_C (zx σ n0 bf) d 4010 [.ref p0] S Q := by
  have hL : lv_args 0 [.ref p0] = [(0, .ref p0)] := rfl
  refine zs_C.of1 (hB.2 4010 (by decide) (by decide)) hd (by rw [hL]; exact zs_sub_self _ (by exact ⟨rfl, trivial⟩)) ?_
  rw [hL]
  clear hL
  unfold w_X5_constants at h
  refine zu_aload_n d_4010_0 rfl (zs_ra _) ?_
  obtain ⟨k1, h⟩ := h
  refine zg_4_5 rfl d_4010_1 k1 ?_
  obtain ⟨b2, e3, h⟩ := h
  refine zs_stk0 (zs_rfe e3) ?_
  obtain ⟨k4, h⟩ := h
  refine zc_4_29  hB rfl k4 d_4010_4 (Nat.le_of_ble_eq_true rfl) h (fun S5 h => ?_)
  exact h.weak ⟨rfl, trivial⟩
/-! SchemaPascal$Reader.telling()I -/
theorem zm_4011 {σ : Nat → Nat} {n0 : Nat} {bf : ab_B} : ab_code (zx σ n0 bf).1 4011 = prog_9_method_9_code := rfl
theorem zq_4011 {σ : Nat → Nat} {n0 : Nat} {bf : ab_B} : ab_maxL (zx σ n0 bf).1 4011 = 1 := rfl
theorem zr_4011 {σ : Nat → Nat} {n0 : Nat} {bf : ab_B} : ab_ret (zx σ n0 bf).1 4011 = (Option.some Jvm.ClassFile.FieldType.int) := rfl
theorem d_4011_0 {σ : Nat → Nat} {n0 : Nat} {bf : ab_B} : decode (ab_code (zx σ n0 bf).1 4011) 0 = .ok (.aload_n 0, 1) := zd zm_4011 (by decide +kernel)
theorem d_4011_1 {σ : Nat → Nat} {n0 : Nat} {bf : ab_B} : decode (ab_code (zx σ n0 bf).1 4011) 1 = .ok (.getfield 5, 3) := zd zm_4011 (by decide +kernel)
theorem d_4011_4 {σ : Nat → Nat} {n0 : Nat} {bf : ab_B} : decode (ab_code (zx σ n0 bf).1 4011) 4 = .ok (.invokevirtual 36, 3) := zd zm_4011 (by decide +kernel)
theorem d_4011_7 {σ : Nat → Nat} {n0 : Nat} {bf : ab_B} : decode (ab_code (zx σ n0 bf).1 4011) 7 = .ok (.ifCond .ne 9, 3) := zd zm_4011 (by decide +kernel)
theorem d_4011_10 {σ : Nat → Nat} {n0 : Nat} {bf : ab_B} : decode (ab_code (zx σ n0 bf).1 4011) 10 = .ok (.aload_n 0, 1) := zd zm_4011 (by decide +kernel)
theorem d_4011_11 {σ : Nat → Nat} {n0 : Nat} {bf : ab_B} : decode (ab_code (zx σ n0 bf).1 4011) 11 = .ok (.iconst 2, 1) := zd zm_4011 (by decide +kernel)
theorem d_4011_12 {σ : Nat → Nat} {n0 : Nat} {bf : ab_B} : decode (ab_code (zx σ n0 bf).1 4011) 12 = .ok (.invokevirtual 25, 3) := zd zm_4011 (by decide +kernel)
theorem d_4011_15 {σ : Nat → Nat} {n0 : Nat} {bf : ab_B} : decode (ab_code (zx σ n0 bf).1 4011) 15 = .ok (.athrow, 1) := zd zm_4011 (by decide +kernel)
theorem d_4011_16 {σ : Nat → Nat} {n0 : Nat} {bf : ab_B} : decode (ab_code (zx σ n0 bf).1 4011) 16 = .ok (.aload_n 0, 1) := zd zm_4011 (by decide +kernel)
theorem d_4011_17 {σ : Nat → Nat} {n0 : Nat} {bf : ab_B} : decode (ab_code (zx σ n0 bf).1 4011) 17 = .ok (.aload_n 0, 1) := zd zm_4011 (by decide +kernel)
theorem d_4011_18 {σ : Nat → Nat} {n0 : Nat} {bf : ab_B} : decode (ab_code (zx σ n0 bf).1 4011) 18 = .ok (.getfield 5, 3) := zd zm_4011 (by decide +kernel)
theorem d_4011_21 {σ : Nat → Nat} {n0 : Nat} {bf : ab_B} : decode (ab_code (zx σ n0 bf).1 4011) 21 = .ok (.getfield 40, 3) := zd zm_4011 (by decide +kernel)
theorem d_4011_24 {σ : Nat → Nat} {n0 : Nat} {bf : ab_B} : decode (ab_code (zx σ n0 bf).1 4011) 24 = .ok (.invokevirtual 118, 3) := zd zm_4011 (by decide +kernel)
theorem d_4011_27 {σ : Nat → Nat} {n0 : Nat} {bf : ab_B} : decode (ab_code (zx σ n0 bf).1 4011) 27 = .ok (.ifnull 9, 3) := zd zm_4011 (by decide +kernel)
theorem d_4011_30 {σ : Nat → Nat} {n0 : Nat} {bf : ab_B} : decode (ab_code (zx σ n0 bf).1 4011) 30 = .ok (.aload_n 0, 1) := zd zm_4011 (by decide +kernel)
theorem d_4011_31 {σ : Nat → Nat} {n0 : Nat} {bf : ab_B} : decode (ab_code (zx σ n0 bf).1 4011) 31 = .ok (.iconst 4, 1) := zd zm_4011 (by decide +kernel)
theorem d_4011_32 {σ : Nat → Nat} {n0 : Nat} {bf : ab_B} : decode (ab_code (zx σ n0 bf).1 4011) 32 = .ok (.invokevirtual 25, 3) := zd zm_4011 (by decide +kernel)
theorem d_4011_35 {σ : Nat → Nat} {n0 : Nat} {bf : ab_B} : decode (ab_code (zx σ n0 bf).1 4011) 35 = .ok (.athrow, 1) := zd zm_4011 (by decide +kernel)
theorem d_4011_36 {σ : Nat → Nat} {n0 : Nat} {bf : ab_B} : decode (ab_code (zx σ n0 bf).1 4011) 36 = .ok (.aload_n 0, 1) := zd zm_4011 (by decide +kernel)
theorem d_4011_37 {σ : Nat → Nat} {n0 : Nat} {bf : ab_B} : decode (ab_code (zx σ n0 bf).1 4011) 37 = .ok (.invokevirtual 122, 3) := zd zm_4011 (by decide +kernel)
theorem d_4011_40 {σ : Nat → Nat} {n0 : Nat} {bf : ab_B} : decode (ab_code (zx σ n0 bf).1 4011) 40 = .ok (.ireturn, 1) := zd zm_4011 (by decide +kernel)
def w_X5_telling (X : zs_X) (d : Nat) (p0 : Nat) (S : zs_T) (Q : zs_Q) : Prop :=
  (zs_K S p0 = some (.inl 4) ∧ ∃ b2, (zs_R S 4000 p0) = some b2 ∧ zs_K S b2 = some (.inl 5) ∧ zs_C X d 5016 [.ref b2] S (zs_kI (fun v6 S5 => (((¬ v6 = 0 → (zs_K S5 p0 = some (.inl 4) ∧ ∃ b9, (zs_R S5 4000 p0) = some b9 ∧ zs_K S5 b9 = some (.inl 5) ∧ zs_C X d 4012 [.ref p0, .int (zs_I S5 5004 b9)] S5 (zs_kR (fun v13 S12 => (((v13 = none → (zs_K S12 p0 = some (.inl 4) ∧ zs_C X d 4007 [.ref p0] S12 (zs_kI (fun v18 S17 => (Q (.returned (some (.int v18))) S17)) Q))) ∧ (∀ b14, v13 = some b14 → (zs_K S12 p0 = some (.inl 4) ∧ zs_C X d 4006 [.ref p0, .int (4 : Int32)] S12 (zs_kR (fun v21 S20 => (∃ b22, v21 = some b22 ∧ Q (.threw b22) S20)) Q)))))) Q))) ∧ (¬ (¬ v6 = 0) → (zs_K S5 p0 = some (.inl 4) ∧ zs_C X d 4006 [.ref p0, .int (2 : Int32)] S5 (zs_kR (fun v26 S25 => (∃ b27, v26 = some b27 ∧ Q (.threw b27) S25)) Q)))))) Q))
theorem u_X5_telling {σ : Nat → Nat} {n0 : Nat} {bf : ab_B} {d : Nat} {p0 : Nat} {S : zs_T} {Q : zs_Q} (hB : zt_B bf) (hd : 1 ≤ d) (h : w_X5_telling (zx σ n0 bf) (d - 1) p0 S Q) : zs_C (zx σ n0 bf) d 4011 [.ref p0] S Q := by
  have hL : lv_args 0 [.ref p0] = [(0, .ref p0)] := rfl
  refine zs_C.of1 (hB.2 4011 (by decide) (by decide)) hd (by rw [hL]; exact zs_sub_self _ (by exact ⟨rfl, trivial⟩)) ?_
  rw [hL]
  clear hL
  unfold w_X5_telling at h
  refine zu_aload_n d_4011_0 rfl (zs_ra _) ?_
  obtain ⟨k1, h⟩ := h
  refine zg_4_5 rfl d_4011_1 k1 ?_
  obtain ⟨b2, e3, h⟩ := h
  refine zs_stk0 (zs_rfe e3) ?_
  obtain ⟨k4, h⟩ := h
  refine zc_4_36  hB rfl k4 d_4011_4 (Nat.le_of_ble_eq_true rfl) h (fun v6 S5 h => ?_)
  refine zu_ifne (t := 16) d_4011_7 rfl (fun c7 => ?_) (fun c7 => ?_)
  · have h := h.1 c7
    refine zu_aload_n d_4011_16 rfl (zs_ra _) ?_
    refine zu_aload_n d_4011_17 rfl (zs_ra _) ?_
    obtain ⟨k8, h⟩ := h
    refine zg_4_5 rfl d_4011_18 k8 ?_
    obtain ⟨b9, e10, h⟩ := h
    refine zs_stk0 (zs_rfe e10) ?_
    obtain ⟨k11, h⟩ := h
    refine zg_4_40 rfl d_4011_21 k11 ?_
    refine zc_4_118 (x0 := (zs_I S5 5004 b9)) hB rfl k8 d_4011_24 (Nat.le_of_ble_eq_true rfl) h (fun v13 S12 h => ?_)
    refine zu_ifnull (u := v13) (t := 36) d_4011_27 rfl rfl (fun e15 => ?_) (fun b14 e15 => ?_)
    · have h := h.1 e15
      refine zu_aload_n d_4011_36 rfl (zs_ra _) ?_
      obtain ⟨k16, h⟩ := h
      refine zc_4_122  hB rfl k16 d_4011_37 (Nat.le_of_ble_eq_true rfl) h (fun v18 S17 h => ?_)
      exact zu_iret d_4011_40 zr_4011 rfl h
    · have h := h.2 b14 e15
      refine zu_aload_n d_4011_30 rfl (zs_ra _) ?_
      refine zu_iconst d_4011_31 zi_4 ?_
      obtain ⟨k19, h⟩ := h
      refine zc_4_25 (x0 := (4 : Int32)) hB rfl k19 d_4011_32 (Nat.le_of_ble_eq_true rfl) h (fun v21 S20 h => ?_)
      obtain ⟨b22, e23, h⟩ := h
      refine zs_stk0 (zs_rfe e23) ?_
      exact zu_throw d_4011_35 h
  · have h := h.2 c7
    refine zu_aload_n d_4011_10 rfl (zs_ra _) ?_
    refine zu_iconst d_4011_11 zi_2 ?_
    obtain ⟨k24, h⟩ := h
    refine zc_4_25 (x0 := (2 : Int32)) hB rfl k24 d_4011_12 (Nat.le_of_ble_eq_true rfl) h (fun v26 S25 h => ?_)
    obtain ⟨b27, e28, h⟩ := h
    refine zs_stk0 (zs_rfe e28) ?_
    exact zu_throw d_4011_15 h
/-! SchemaPascal$Reader.here(I)LSchemaPascal$Symbol; -/
theorem zm_4012 {σ : Nat → Nat} {n0 : Nat} {bf : ab_B} : ab_code (zx σ n0 bf).1 4012 = prog_9_method_8_code := rfl
theorem zq_4012 {σ : Nat → Nat} {n0 : Nat} {bf : ab_B} : ab_maxL (zx σ n0 bf).1 4012 = 3 := rfl
theorem zr_4012 {σ : Nat → Nat} {n0 : Nat} {bf : ab_B} : ab_ret (zx σ n0 bf).1 4012 = (Option.some (Jvm.ClassFile.FieldType.object "SchemaPascal$Symbol")) := rfl
theorem d_4012_0 {σ : Nat → Nat} {n0 : Nat} {bf : ab_B} : decode (ab_code (zx σ n0 bf).1 4012) 0 = .ok (.aload_n 0, 1) := zd zm_4012 (by decide +kernel)
theorem d_4012_1 {σ : Nat → Nat} {n0 : Nat} {bf : ab_B} : decode (ab_code (zx σ n0 bf).1 4012) 1 = .ok (.getfield 46, 3) := zd zm_4012 (by decide +kernel)
theorem d_4012_4 {σ : Nat → Nat} {n0 : Nat} {bf : ab_B} : decode (ab_code (zx σ n0 bf).1 4012) 4 = .ok (.invokevirtual 50, 3) := zd zm_4012 (by decide +kernel)
theorem d_4012_7 {σ : Nat → Nat} {n0 : Nat} {bf : ab_B} : decode (ab_code (zx σ n0 bf).1 4012) 7 = .ok (.iconst 1, 1) := zd zm_4012 (by decide +kernel)
theorem d_4012_8 {σ : Nat → Nat} {n0 : Nat} {bf : ab_B} : decode (ab_code (zx σ n0 bf).1 4012) 8 = .ok (.isub, 1) := zd zm_4012 (by decide +kernel)
theorem d_4012_9 {σ : Nat → Nat} {n0 : Nat} {bf : ab_B} : decode (ab_code (zx σ n0 bf).1 4012) 9 = .ok (.istore_n 2, 1) := zd zm_4012 (by decide +kernel)
theorem d_4012_10 {σ : Nat → Nat} {n0 : Nat} {bf : ab_B} : decode (ab_code (zx σ n0 bf).1 4012) 10 = .ok (.iload_n 2, 1) := zd zm_4012 (by decide +kernel)
theorem d_4012_11 {σ : Nat → Nat} {n0 : Nat} {bf : ab_B} : decode (ab_code (zx σ n0 bf).1 4012) 11 = .ok (.aload_n 0, 1) := zd zm_4012 (by decide +kernel)
theorem d_4012_12 {σ : Nat → Nat} {n0 : Nat} {bf : ab_B} : decode (ab_code (zx σ n0 bf).1 4012) 12 = .ok (.getfield 115, 3) := zd zm_4012 (by decide +kernel)
theorem d_4012_15 {σ : Nat → Nat} {n0 : Nat} {bf : ab_B} : decode (ab_code (zx σ n0 bf).1 4012) 15 = .ok (.if_icmp .lt 39, 3) := zd zm_4012 (by decide +kernel)
theorem d_4012_18 {σ : Nat → Nat} {n0 : Nat} {bf : ab_B} : decode (ab_code (zx σ n0 bf).1 4012) 18 = .ok (.aload_n 0, 1) := zd zm_4012 (by decide +kernel)
theorem d_4012_19 {σ : Nat → Nat} {n0 : Nat} {bf : ab_B} : decode (ab_code (zx σ n0 bf).1 4012) 19 = .ok (.getfield 46, 3) := zd zm_4012 (by decide +kernel)
theorem d_4012_22 {σ : Nat → Nat} {n0 : Nat} {bf : ab_B} : decode (ab_code (zx σ n0 bf).1 4012) 22 = .ok (.iload_n 2, 1) := zd zm_4012 (by decide +kernel)
theorem d_4012_23 {σ : Nat → Nat} {n0 : Nat} {bf : ab_B} : decode (ab_code (zx σ n0 bf).1 4012) 23 = .ok (.invokevirtual 56, 3) := zd zm_4012 (by decide +kernel)
theorem d_4012_26 {σ : Nat → Nat} {n0 : Nat} {bf : ab_B} : decode (ab_code (zx σ n0 bf).1 4012) 26 = .ok (.checkcast 60, 3) := zd zm_4012 (by decide +kernel)
theorem d_4012_29 {σ : Nat → Nat} {n0 : Nat} {bf : ab_B} : decode (ab_code (zx σ n0 bf).1 4012) 29 = .ok (.getfield 89, 3) := zd zm_4012 (by decide +kernel)
theorem d_4012_32 {σ : Nat → Nat} {n0 : Nat} {bf : ab_B} : decode (ab_code (zx σ n0 bf).1 4012) 32 = .ok (.iload_n 1, 1) := zd zm_4012 (by decide +kernel)
theorem d_4012_33 {σ : Nat → Nat} {n0 : Nat} {bf : ab_B} : decode (ab_code (zx σ n0 bf).1 4012) 33 = .ok (.if_icmp .ne 15, 3) := zd zm_4012 (by decide +kernel)
theorem d_4012_36 {σ : Nat → Nat} {n0 : Nat} {bf : ab_B} : decode (ab_code (zx σ n0 bf).1 4012) 36 = .ok (.aload_n 0, 1) := zd zm_4012 (by decide +kernel)
theorem d_4012_37 {σ : Nat → Nat} {n0 : Nat} {bf : ab_B} : decode (ab_code (zx σ n0 bf).1 4012) 37 = .ok (.getfield 46, 3) := zd zm_4012 (by decide +kernel)
theorem d_4012_40 {σ : Nat → Nat} {n0 : Nat} {bf : ab_B} : decode (ab_code (zx σ n0 bf).1 4012) 40 = .ok (.iload_n 2, 1) := zd zm_4012 (by decide +kernel)
theorem d_4012_41 {σ : Nat → Nat} {n0 : Nat} {bf : ab_B} : decode (ab_code (zx σ n0 bf).1 4012) 41 = .ok (.invokevirtual 56, 3) := zd zm_4012 (by decide +kernel)
theorem d_4012_44 {σ : Nat → Nat} {n0 : Nat} {bf : ab_B} : decode (ab_code (zx σ n0 bf).1 4012) 44 = .ok (.checkcast 60, 3) := zd zm_4012 (by decide +kernel)
theorem d_4012_47 {σ : Nat → Nat} {n0 : Nat} {bf : ab_B} : decode (ab_code (zx σ n0 bf).1 4012) 47 = .ok (.areturn, 1) := zd zm_4012 (by decide +kernel)
theorem d_4012_48 {σ : Nat → Nat} {n0 : Nat} {bf : ab_B} : decode (ab_code (zx σ n0 bf).1 4012) 48 = .ok (.iinc 2 (-1), 3) := zd zm_4012 (by decide +kernel)
theorem d_4012_51 {σ : Nat → Nat} {n0 : Nat} {bf : ab_B} : decode (ab_code (zx σ n0 bf).1 4012) 51 = .ok (.goto (-41), 3) := zd zm_4012 (by decide +kernel)
theorem d_4012_54 {σ : Nat → Nat} {n0 : Nat} {bf : ab_B} : decode (ab_code (zx σ n0 bf).1 4012) 54 = .ok (.aconst_null, 1) := zd zm_4012 (by decide +kernel)
theorem d_4012_55 {σ : Nat → Nat} {n0 : Nat} {bf : ab_B} : decode (ab_code (zx σ n0 bf).1 4012) 55 = .ok (.areturn, 1) := zd zm_4012 (by decide +kernel)
def w_X5_here_10 (X : zs_X) (d : Nat) (p0 : Nat) (p1 : Int32) (p2 : Int32) (S : zs_T) (Q : zs_Q) : Prop :=
  (zs_K S p0 = some (.inl 4) ∧ ((p2 < (zs_I S 4009 p0) → (Q (.returned (some (.null))) S)) ∧ (¬ (p2 < (zs_I S 4009 p0)) → (∃ b3, (zs_R S 4008 p0) = some b3 ∧ zs_K S b3 = some (.inl 16) ∧ zs_C X d 16009 [.ref b3, .int p2] S (zs_kR (fun v7 S6 => ((∀ a, v7 = some a → zs_K S6 a = some (.inl 7)) ∧ ∃ b9, v7 = some b9 ∧ zs_K S6 b9 = some (.inl 7) ∧ ((¬ (zs_I S6 7000 b9) = p1 → (zs_U X d 4012 10 [(0, .ref p0), (1, .int p1), (2, .int (p2 + (-1 : Int32)))] [] S6 Q)) ∧ (¬ (¬ (zs_I S6 7000 b9) = p1) → (zs_K S6 p0 = some (.inl 4) ∧ ∃ b14, (zs_R S6 4008 p0) = some b14 ∧ zs_K S6 b14 = some (.inl 16) ∧ zs_C X d 16009 [.ref b14, .int p2] S6 (zs_kR (fun v18 S17 => ((∀ a, v18 = some a → zs_K S17 a = some (.inl 7)) ∧ Q (.returned (some (va_rf v18))) S17)) Q)))))) Q)))))
theorem u_X5_here_10 {σ : Nat → Nat} {n0 : Nat} {bf : ab_B} {d : Nat} {p0 : Nat} {p1 : Int32} {p2 : Int32} {S : zs_T} {Q : zs_Q} (hB : zt_B bf) (h : w_X5_here_10 (zx σ n0 bf) d p0 p1 p2 S Q) : zs_U (zx σ n0 bf) d 4012 10 [(0, .ref p0), (1, .int p1), (2, .int p2)] [] S Q := by
  unfold w_X5_here_10 at h
  refine zu_iload_n d_4012_10 rfl ?_
  refine zu_aload_n d_4012_11 rfl (zs_ra _) ?_
  obtain ⟨k1, h⟩ := h
  refine zg_4_115 rfl d_4012_12 k1 ?_
  refine zu_cmplt (t := 54) d_4012_15 rfl (fun c2 => ?_) (fun c2 => ?_)
  · have h := h.1 c2
    refine zu_stk d_4012_54 rfl rfl ?_
    exact zu_aret d_4012_55 zr_4012 zs_r0 h
  · have h := h.2 c2
    refine zu_aload_n d_4012_18 rfl (zs_ra _) ?_
    refine zg_4_46 rfl d_4012_19 k1 ?_
    refine zu_iload_n d_4012_22 rfl ?_
    obtain ⟨b3, e4, h⟩ := h
    refine zs_stk1 (zs_rfe e4) ?_
    obtain ⟨k5, h⟩ := h
    refine zc_4_56 (x0 := p2) hB rfl k5 d_4012_23 (Nat.le_of_ble_eq_true rfl) h (fun v7 S6 h => ?_)
    obtain ⟨k8, h⟩ := h
    refine zk_4_60 (o := v7) rfl d_4012_26 k8 ?_
    obtain ⟨b9, e10, h⟩ := h
    refine zs_stk0 (zs_rfe e10) ?_
    obtain ⟨k11, h⟩ := h
    refine zg_4_89 rfl d_4012_29 k11 ?_
    refine zu_iload_n d_4012_32 rfl ?_
    refine zu_cmpne (t := 48) d_4012_33 rfl (fun c12 => ?_) (fun c12 => ?_)
    · have h := h.1 c12
      refine zu_iinc d_4012_48 rfl zi_m1 (zs_lt zq_4012 rfl) ?_
      refine zu_goto (t := 10) d_4012_51 rfl ?_
      exact h.weak ⟨rfl, rfl, rfl, trivial⟩
    · have h := h.2 c12
      refine zu_aload_n d_4012_36 rfl (zs_ra _) ?_
      obtain ⟨k13, h⟩ := h
      refine zg_4_46 rfl d_4012_37 k13 ?_
      refine zu_iload_n d_4012_40 rfl ?_
      obtain ⟨b14, e15, h⟩ := h
      refine zs_stk1 (zs_rfe e15) ?_
      obtain ⟨k16, h⟩ := h
      refine zc_4_56 (x0 := p2) hB rfl k16 d_4012_41 (Nat.le_of_ble_eq_true rfl) h (fun v18 S17 h => ?_)
      obtain ⟨k19, h⟩ := h
      refine zk_4_60 (o := v18) rfl d_4012_44 k19 ?_
      exact zu_aret d_4012_47 zr_4012 (zs_rr _) h
def w_X5_here (X : zs_X) (d : Nat) (p0 : Nat) (p1 : Int32) (S : zs_T) (Q : zs_Q) : Prop :=
  (zs_K S p0 = some (.inl 4) ∧ ∃ b2, (zs_R S 4008 p0) = some b2 ∧ zs_K S b2 = some (.inl 16) ∧ zs_C X d 16001 [.ref b2] S (zs_kI (fun v6 S5 => (zs_U X d 4012 10 [(0, .ref p0), (1, .int p1), (2, .int (v6 - (1 : Int32)))] [] S5 Q)) Q))
theorem u_X5_here {σ : Nat → Nat} {n0 : Nat} {bf : ab_B} {d : Nat} {p0 : Nat} {p1 : Int32} {S : zs_T} {Q : zs_Q} (hB : zt_B bf) (hd : 1 ≤ d) (h : w_X5_here (zx σ n0 bf) (d - 1) p0 p1 S Q) : zs_C (zx σ n0 bf) d 4012 [.ref p0, .int p1] S Q := by
  have hL : lv_args 0 [.ref p0, .int p1] = [(0, .ref p0), (1, .int p1)] := rfl
  refine zs_C.of1 (hB.2 4012 (by decide) (by decide)) hd (by rw [hL]; exact zs_sub_self _ (by exact ⟨rfl, rfl, trivial⟩)) ?_
  rw [hL]
  clear hL
  unfold w_X5_here at h
  refine zu_aload_n d_4012_0 rfl (zs_ra _) ?_
  obtain ⟨k1, h⟩ := h
  refine zg_4_46 rfl d_4012_1 k1 ?_
  obtain ⟨b2, e3, h⟩ := h
  refine zs_stk0 (zs_rfe e3) ?_
  obtain ⟨k4, h⟩ := h
  refine zc_4_50  hB rfl k4 d_4012_4 (Nat.le_of_ble_eq_true rfl) h (fun v6 S5 h => ?_)
  refine zu_iconst d_4012_7 zi_1 ?_
  refine zu_stk d_4012_8 rfl rfl ?_
  refine zu_istore_n d_4012_9 (zs_lt zq_4012 rfl) ?_
  exact h.weak ⟨rfl, rfl, rfl, trivial⟩
/-! SchemaPascal$Reader.constant()LSchemaPascal$Node; -/
theorem zm_4013 {σ : Nat → Nat} {n0 : Nat} {bf : ab_B} : ab_code (zx σ n0 bf).1 4013 = prog_9_method_52_code := rfl
theorem zq_4013 {σ : Nat → Nat} {n0 : Nat} {bf : ab_B} : ab_maxL (zx σ n0 bf).1 4013 = 2 := rfl
theorem zr_4013 {σ : Nat → Nat} {n0 : Nat} {bf : ab_B} : ab_ret (zx σ n0 bf).1 4013 = (Option.some (Jvm.ClassFile.FieldType.object "SchemaPascal$Node")) := rfl
theorem d_4013_0 {σ : Nat → Nat} {n0 : Nat} {bf : ab_B} : decode (ab_code (zx σ n0 bf).1 4013) 0 = .ok (.aload_n 0, 1) := zd zm_4013 (by decide +kernel)
theorem d_4013_1 {σ : Nat → Nat} {n0 : Nat} {bf : ab_B} : decode (ab_code (zx σ n0 bf).1 4013) 1 = .ok (.invokevirtual 569, 3) := zd zm_4013 (by decide +kernel)
theorem d_4013_4 {σ : Nat → Nat} {n0 : Nat} {bf : ab_B} : decode (ab_code (zx σ n0 bf).1 4013) 4 = .ok (.astore_n 1, 1) := zd zm_4013 (by decide +kernel)
theorem d_4013_5 {σ : Nat → Nat} {n0 : Nat} {bf : ab_B} : decode (ab_code (zx σ n0 bf).1 4013) 5 = .ok (.aload_n 1, 1) := zd zm_4013 (by decide +kernel)
theorem d_4013_6 {σ : Nat → Nat} {n0 : Nat} {bf : ab_B} : decode (ab_code (zx σ n0 bf).1 4013) 6 = .ok (.getfield 512, 3) := zd zm_4013 (by decide +kernel)
theorem d_4013_9 {σ : Nat → Nat} {n0 : Nat} {bf : ab_B} : decode (ab_code (zx σ n0 bf).1 4013) 9 = .ok (.iconst 1, 1) := zd zm_4013 (by decide +kernel)
theorem d_4013_10 {σ : Nat → Nat} {n0 : Nat} {bf : ab_B} : decode (ab_code (zx σ n0 bf).1 4013) 10 = .ok (.if_icmp .ne 5, 3) := zd zm_4013 (by decide +kernel)
theorem d_4013_13 {σ : Nat → Nat} {n0 : Nat} {bf : ab_B} : decode (ab_code (zx σ n0 bf).1 4013) 13 = .ok (.aload_n 1, 1) := zd zm_4013 (by decide +kernel)
theorem d_4013_14 {σ : Nat → Nat} {n0 : Nat} {bf : ab_B} : decode (ab_code (zx σ n0 bf).1 4013) 14 = .ok (.areturn, 1) := zd zm_4013 (by decide +kernel)
theorem d_4013_15 {σ : Nat → Nat} {n0 : Nat} {bf : ab_B} : decode (ab_code (zx σ n0 bf).1 4013) 15 = .ok (.aload_n 1, 1) := zd zm_4013 (by decide +kernel)
theorem d_4013_16 {σ : Nat → Nat} {n0 : Nat} {bf : ab_B} : decode (ab_code (zx σ n0 bf).1 4013) 16 = .ok (.getfield 297, 3) := zd zm_4013 (by decide +kernel)
theorem d_4013_19 {σ : Nat → Nat} {n0 : Nat} {bf : ab_B} : decode (ab_code (zx σ n0 bf).1 4013) 19 = .ok (.invokevirtual 335, 3) := zd zm_4013 (by decide +kernel)
theorem d_4013_22 {σ : Nat → Nat} {n0 : Nat} {bf : ab_B} : decode (ab_code (zx σ n0 bf).1 4013) 22 = .ok (.ifCond .eq 10, 3) := zd zm_4013 (by decide +kernel)
theorem d_4013_25 {σ : Nat → Nat} {n0 : Nat} {bf : ab_B} : decode (ab_code (zx σ n0 bf).1 4013) 25 = .ok (.aload_n 1, 1) := zd zm_4013 (by decide +kernel)
theorem d_4013_26 {σ : Nat → Nat} {n0 : Nat} {bf : ab_B} : decode (ab_code (zx σ n0 bf).1 4013) 26 = .ok (.invokestatic 459, 3) := zd zm_4013 (by decide +kernel)
theorem d_4013_29 {σ : Nat → Nat} {n0 : Nat} {bf : ab_B} : decode (ab_code (zx σ n0 bf).1 4013) 29 = .ok (.ifCond .ne 9, 3) := zd zm_4013 (by decide +kernel)
theorem d_4013_32 {σ : Nat → Nat} {n0 : Nat} {bf : ab_B} : decode (ab_code (zx σ n0 bf).1 4013) 32 = .ok (.aload_n 0, 1) := zd zm_4013 (by decide +kernel)
theorem d_4013_33 {σ : Nat → Nat} {n0 : Nat} {bf : ab_B} : decode (ab_code (zx σ n0 bf).1 4013) 33 = .ok (.iconst 5, 1) := zd zm_4013 (by decide +kernel)
theorem d_4013_34 {σ : Nat → Nat} {n0 : Nat} {bf : ab_B} : decode (ab_code (zx σ n0 bf).1 4013) 34 = .ok (.invokevirtual 25, 3) := zd zm_4013 (by decide +kernel)
theorem d_4013_37 {σ : Nat → Nat} {n0 : Nat} {bf : ab_B} : decode (ab_code (zx σ n0 bf).1 4013) 37 = .ok (.athrow, 1) := zd zm_4013 (by decide +kernel)
theorem d_4013_38 {σ : Nat → Nat} {n0 : Nat} {bf : ab_B} : decode (ab_code (zx σ n0 bf).1 4013) 38 = .ok (.aload_n 0, 1) := zd zm_4013 (by decide +kernel)
theorem d_4013_39 {σ : Nat → Nat} {n0 : Nat} {bf : ab_B} : decode (ab_code (zx σ n0 bf).1 4013) 39 = .ok (.aload_n 1, 1) := zd zm_4013 (by decide +kernel)
theorem d_4013_40 {σ : Nat → Nat} {n0 : Nat} {bf : ab_B} : decode (ab_code (zx σ n0 bf).1 4013) 40 = .ok (.invokevirtual 465, 3) := zd zm_4013 (by decide +kernel)
theorem d_4013_43 {σ : Nat → Nat} {n0 : Nat} {bf : ab_B} : decode (ab_code (zx σ n0 bf).1 4013) 43 = .ok (.aload_n 1, 1) := zd zm_4013 (by decide +kernel)
theorem d_4013_44 {σ : Nat → Nat} {n0 : Nat} {bf : ab_B} : decode (ab_code (zx σ n0 bf).1 4013) 44 = .ok (.getfield 297, 3) := zd zm_4013 (by decide +kernel)
theorem d_4013_47 {σ : Nat → Nat} {n0 : Nat} {bf : ab_B} : decode (ab_code (zx σ n0 bf).1 4013) 47 = .ok (.aload_n 1, 1) := zd zm_4013 (by decide +kernel)
theorem d_4013_48 {σ : Nat → Nat} {n0 : Nat} {bf : ab_B} : decode (ab_code (zx σ n0 bf).1 4013) 48 = .ok (.getfield 469, 3) := zd zm_4013 (by decide +kernel)
theorem d_4013_51 {σ : Nat → Nat} {n0 : Nat} {bf : ab_B} : decode (ab_code (zx σ n0 bf).1 4013) 51 = .ok (.invokestatic 470, 3) := zd zm_4013 (by decide +kernel)
theorem d_4013_54 {σ : Nat → Nat} {n0 : Nat} {bf : ab_B} : decode (ab_code (zx σ n0 bf).1 4013) 54 = .ok (.areturn, 1) := zd zm_4013 (by decide +kernel)
def w_X5_constant_32 (X : zs_X) (d : Nat) (p0 : Nat) (S : zs_T) (Q : zs_Q) : Prop :=
  (zs_K S p0 = some (.inl 4) ∧ zs_C X d 4006 [.ref p0, .int (5 : Int32)] S (zs_kR (fun v3 S2 => (∃ b4, v3 = some b4 ∧ Q (.threw b4) S2)) Q))
theorem u_X5_constant_32 {σ : Nat → Nat} {n0 : Nat} {bf : ab_B} {d : Nat} {p0 : Nat} {S : zs_T} {Q : zs_Q} (hB : zt_B bf) (h : w_X5_constant_32 (zx σ n0 bf) d p0 S Q) : zs_U (zx σ n0 bf) d 4013 32 [(0, .ref p0)] [] S Q := by
  unfold w_X5_constant_32 at h
  refine zu_aload_n d_4013_32 rfl (zs_ra _) ?_
  refine zu_iconst d_4013_33 zi_5 ?_
  obtain ⟨k1, h⟩ := h
  refine zc_4_25 (x0 := (5 : Int32)) hB rfl k1 d_4013_34 (Nat.le_of_ble_eq_true rfl) h (fun v3 S2 h => ?_)
  obtain ⟨b4, e5, h⟩ := h
  refine zs_stk0 (zs_rfe e5) ?_
  exact zu_throw d_4013_37 h
def w_X5_constant (X : zs_X) (d : Nat) (p0 : Nat) (S : zs_T) (Q : zs_Q) : Prop :=
  (zs_K S p0 = some (.inl 4) ∧ zs_C X d 4014 [.ref p0] S (zs_kR (fun v3 S2 => (∃ b4, v3 = some b4 ∧ zs_K S2 b4 = some (.inl 11) ∧ ((¬ (zs_I S2 11000 b4) = (1 : Int32) → (∃ b8, (zs_R S2 11002 b4) = some b8 ∧ zs_K S2 b8 = some (.inl 6) ∧ zs_C X d 6002 [.ref b8] S2 (zs_kI (fun v12 S11 => (((v12 = 0 → w_X5_constant_32 X d p0 S11 Q) ∧ (¬ (v12 = 0) → (zs_C X d 4039 [va_rf v3] S11 (zs_kI (fun v15 S14 => (((¬ v15 = 0 → (zs_K S14 p0 = some (.inl 4) ∧ zs_C X d 4057 [.ref p0, va_rf v3] S14 (zs_kJ (fun v19 S18 => (zs_K S18 b4 = some (.inl 11) ∧ zs_C X d 4019 [.long v19, va_rf (zs_R S18 11002 b4), .int (zs_I S18 11001 b4)] S18 (zs_kR (fun v22 S21 => (Q (.returned (some (va_rf v22))) S21)) Q))) Q))) ∧ (¬ (¬ v15 = 0) → w_X5_constant_32 X d p0 S14 Q)))) Q)))))) Q))) ∧ (¬ (¬ (zs_I S2 11000 b4) = (1 : Int32)) → (Q (.returned (some (va_rf v3))) S2))))) Q))
theorem u_X5_constant {σ : Nat → Nat} {n0 : Nat} {bf : ab_B} {d : Nat} {p0 : Nat} {S : zs_T} {Q : zs_Q} (hB : zt_B bf) (hd : 1 ≤ d) (h : w_X5_constant (zx σ n0 bf) (d - 1) p0 S Q) : zs_C (zx σ n0 bf) d 4013 [.ref p0] S Q := by
  have hL : lv_args 0 [.ref p0] = [(0, .ref p0)] := rfl
  refine zs_C.of1 (hB.2 4013 (by decide) (by decide)) hd (by rw [hL]; exact zs_sub_self _ (by exact ⟨rfl, trivial⟩)) ?_
  rw [hL]
  clear hL
  unfold w_X5_constant at h
  refine zu_aload_n d_4013_0 rfl (zs_ra _) ?_
  obtain ⟨k1, h⟩ := h
  refine zc_4_569  hB rfl k1 d_4013_1 (Nat.le_of_ble_eq_true rfl) h (fun v3 S2 h => ?_)
  refine zu_astore_n d_4013_4 (zs_rr _) (zs_lt zq_4013 rfl) ?_
  refine zu_aload_n d_4013_5 rfl (zs_rr _) ?_
  obtain ⟨b4, e5, h⟩ := h
  refine zs_stk0 (zs_rfe e5) ?_
  obtain ⟨k6, h⟩ := h
  refine zg_4_512 rfl d_4013_6 k6 ?_
  refine zu_iconst d_4013_9 zi_1 ?_
  refine zu_cmpne (t := 15) d_4013_10 rfl (fun c7 => ?_) (fun c7 => ?_)
  · have h := h.1 c7
    refine zu_aload_n d_4013_15 rfl (zs_rr _) ?_
    refine zs_stk0 (zs_rfe e5) ?_
    refine zg_4_297 rfl d_4013_16 k6 ?_
    obtain ⟨b8, e9, h⟩ := h
    refine zs_stk0 (zs_rfe e9) ?_
    obtain ⟨k10, h⟩ := h
    refine zc_4_335  hB rfl k10 d_4013_19 (Nat.le_of_ble_eq_true rfl) h (fun v12 S11 h => ?_)
    refine zu_ifeq (t := 32) d_4013_22 rfl (fun c13 => ?_) (fun c13 => ?_)
    · have h := h.1 c13
      exact (u_X5_constant_32 hB h).weak ⟨rfl, trivial⟩
    · have h := h.2 c13
      refine zu_aload_n d_4013_25 rfl (zs_rr _) ?_
      refine zc_4_459 (x0 := v3) hB rfl d_4013_26 (Nat.le_of_ble_eq_true rfl) h (fun v15 S14 h => ?_)
      refine zu_ifne (t := 38) d_4013_29 rfl (fun c16 => ?_) (fun c16 => ?_)
      · have h := h.1 c16
        refine zu_aload_n d_4013_38 rfl (zs_ra _) ?_
        refine zu_aload_n d_4013_39 rfl (zs_rr _) ?_
        obtain ⟨k17, h⟩ := h
        refine zc_4_465 (x0 := v3) hB rfl k17 d_4013_40 (Nat.le_of_ble_eq_true rfl) h (fun v19 S18 h => ?_)
        refine zu_aload_n d_4013_43 rfl (zs_rr _) ?_
        refine zs_stk0 (zs_rfe e5) ?_
        obtain ⟨k20, h⟩ := h
        refine zg_4_297 rfl d_4013_44 k20 ?_
        refine zu_aload_n d_4013_47 rfl (zs_rr _) ?_
        refine zs_stk0 (zs_rfe e5) ?_
        refine zg_4_469 rfl d_4013_48 k20 ?_
        refine zc_4_470 (x0 := v19) (x1 := (zs_R S18 11002 b4)) (x2 := (zs_I S18 11001 b4)) hB rfl d_4013_51 (Nat.le_of_ble_eq_true rfl) h (fun v22 S21 h => ?_)
        exact zu_aret d_4013_54 zr_4013 (zs_rr _) h
      · have h := h.2 c16
        exact (u_X5_constant_32 hB h).weak ⟨rfl, trivial⟩
  · have h := h.2 c7
    refine zu_aload_n d_4013_13 rfl (zs_rr _) ?_
    exact zu_aret d_4013_14 zr_4013 (zs_rr _) h
/-! SchemaPascal$Reader.sum0()LSchemaPascal$Node; -/
theorem zm_4014 {σ : Nat → Nat} {n0 : Nat} {bf : ab_B} : ab_code (zx σ n0 bf).1 4014 = prog_9_method_54_code := rfl
theorem zq_4014 {σ : Nat → Nat} {n0 : Nat} {bf : ab_B} : ab_maxL (zx σ n0 bf).1 4014 = 5 := rfl
theorem zr_4014 {σ : Nat → Nat} {n0 : Nat} {bf : ab_B} : ab_ret (zx σ n0 bf).1 4014 = (Option.some (Jvm.ClassFile.FieldType.object "SchemaPascal$Node")) := rfl
theorem d_4014_0 {σ : Nat → Nat} {n0 : Nat} {bf : ab_B} : decode (ab_code (zx σ n0 bf).1 4014) 0 = .ok (.aload_n 0, 1) := zd zm_4014 (by decide +kernel)
theorem d_4014_1 {σ : Nat → Nat} {n0 : Nat} {bf : ab_B} : decode (ab_code (zx σ n0 bf).1 4014) 1 = .ok (.invokevirtual 456, 3) := zd zm_4014 (by decide +kernel)
theorem d_4014_4 {σ : Nat → Nat} {n0 : Nat} {bf : ab_B} : decode (ab_code (zx σ n0 bf).1 4014) 4 = .ok (.astore_n 1, 1) := zd zm_4014 (by decide +kernel)
theorem d_4014_5 {σ : Nat → Nat} {n0 : Nat} {bf : ab_B} : decode (ab_code (zx σ n0 bf).1 4014) 5 = .ok (.aload_n 0, 1) := zd zm_4014 (by decide +kernel)
theorem d_4014_6 {σ : Nat → Nat} {n0 : Nat} {bf : ab_B} : decode (ab_code (zx σ n0 bf).1 4014) 6 = .ok (.getfield 5, 3) := zd zm_4014 (by decide +kernel)
theorem d_4014_9 {σ : Nat → Nat} {n0 : Nat} {bf : ab_B} : decode (ab_code (zx σ n0 bf).1 4014) 9 = .ok (.bipush 33, 2) := zd zm_4014 (by decide +kernel)
theorem d_4014_11 {σ : Nat → Nat} {n0 : Nat} {bf : ab_B} : decode (ab_code (zx σ n0 bf).1 4014) 11 = .ok (.invokevirtual 33, 3) := zd zm_4014 (by decide +kernel)
theorem d_4014_14 {σ : Nat → Nat} {n0 : Nat} {bf : ab_B} : decode (ab_code (zx σ n0 bf).1 4014) 14 = .ok (.istore_n 2, 1) := zd zm_4014 (by decide +kernel)
theorem d_4014_15 {σ : Nat → Nat} {n0 : Nat} {bf : ab_B} : decode (ab_code (zx σ n0 bf).1 4014) 15 = .ok (.aload_n 0, 1) := zd zm_4014 (by decide +kernel)
theorem d_4014_16 {σ : Nat → Nat} {n0 : Nat} {bf : ab_B} : decode (ab_code (zx σ n0 bf).1 4014) 16 = .ok (.getfield 5, 3) := zd zm_4014 (by decide +kernel)
theorem d_4014_19 {σ : Nat → Nat} {n0 : Nat} {bf : ab_B} : decode (ab_code (zx σ n0 bf).1 4014) 19 = .ok (.getfield 231, 3) := zd zm_4014 (by decide +kernel)
theorem d_4014_22 {σ : Nat → Nat} {n0 : Nat} {bf : ab_B} : decode (ab_code (zx σ n0 bf).1 4014) 22 = .ok (.iconst 3, 1) := zd zm_4014 (by decide +kernel)
theorem d_4014_23 {σ : Nat → Nat} {n0 : Nat} {bf : ab_B} : decode (ab_code (zx σ n0 bf).1 4014) 23 = .ok (.if_icmp .ne 82, 3) := zd zm_4014 (by decide +kernel)
theorem d_4014_26 {σ : Nat → Nat} {n0 : Nat} {bf : ab_B} : decode (ab_code (zx σ n0 bf).1 4014) 26 = .ok (.aload_n 0, 1) := zd zm_4014 (by decide +kernel)
theorem d_4014_27 {σ : Nat → Nat} {n0 : Nat} {bf : ab_B} : decode (ab_code (zx σ n0 bf).1 4014) 27 = .ok (.getfield 5, 3) := zd zm_4014 (by decide +kernel)
theorem d_4014_30 {σ : Nat → Nat} {n0 : Nat} {bf : ab_B} : decode (ab_code (zx σ n0 bf).1 4014) 30 = .ok (.getfield 40, 3) := zd zm_4014 (by decide +kernel)
theorem d_4014_33 {σ : Nat → Nat} {n0 : Nat} {bf : ab_B} : decode (ab_code (zx σ n0 bf).1 4014) 33 = .ok (.bipush 61, 2) := zd zm_4014 (by decide +kernel)
theorem d_4014_35 {σ : Nat → Nat} {n0 : Nat} {bf : ab_B} : decode (ab_code (zx σ n0 bf).1 4014) 35 = .ok (.if_icmp .eq 66, 3) := zd zm_4014 (by decide +kernel)
theorem d_4014_38 {σ : Nat → Nat} {n0 : Nat} {bf : ab_B} : decode (ab_code (zx σ n0 bf).1 4014) 38 = .ok (.aload_n 0, 1) := zd zm_4014 (by decide +kernel)
theorem d_4014_39 {σ : Nat → Nat} {n0 : Nat} {bf : ab_B} : decode (ab_code (zx σ n0 bf).1 4014) 39 = .ok (.getfield 5, 3) := zd zm_4014 (by decide +kernel)
theorem d_4014_42 {σ : Nat → Nat} {n0 : Nat} {bf : ab_B} : decode (ab_code (zx σ n0 bf).1 4014) 42 = .ok (.getfield 40, 3) := zd zm_4014 (by decide +kernel)
theorem d_4014_45 {σ : Nat → Nat} {n0 : Nat} {bf : ab_B} : decode (ab_code (zx σ n0 bf).1 4014) 45 = .ok (.bipush 60, 2) := zd zm_4014 (by decide +kernel)
theorem d_4014_47 {σ : Nat → Nat} {n0 : Nat} {bf : ab_B} : decode (ab_code (zx σ n0 bf).1 4014) 47 = .ok (.if_icmp .eq 54, 3) := zd zm_4014 (by decide +kernel)
theorem d_4014_50 {σ : Nat → Nat} {n0 : Nat} {bf : ab_B} : decode (ab_code (zx σ n0 bf).1 4014) 50 = .ok (.aload_n 0, 1) := zd zm_4014 (by decide +kernel)
theorem d_4014_51 {σ : Nat → Nat} {n0 : Nat} {bf : ab_B} : decode (ab_code (zx σ n0 bf).1 4014) 51 = .ok (.getfield 5, 3) := zd zm_4014 (by decide +kernel)
theorem d_4014_54 {σ : Nat → Nat} {n0 : Nat} {bf : ab_B} : decode (ab_code (zx σ n0 bf).1 4014) 54 = .ok (.getfield 40, 3) := zd zm_4014 (by decide +kernel)
theorem d_4014_57 {σ : Nat → Nat} {n0 : Nat} {bf : ab_B} : decode (ab_code (zx σ n0 bf).1 4014) 57 = .ok (.bipush 62, 2) := zd zm_4014 (by decide +kernel)
theorem d_4014_59 {σ : Nat → Nat} {n0 : Nat} {bf : ab_B} : decode (ab_code (zx σ n0 bf).1 4014) 59 = .ok (.if_icmp .eq 42, 3) := zd zm_4014 (by decide +kernel)
theorem d_4014_62 {σ : Nat → Nat} {n0 : Nat} {bf : ab_B} : decode (ab_code (zx σ n0 bf).1 4014) 62 = .ok (.aload_n 0, 1) := zd zm_4014 (by decide +kernel)
theorem d_4014_63 {σ : Nat → Nat} {n0 : Nat} {bf : ab_B} : decode (ab_code (zx σ n0 bf).1 4014) 63 = .ok (.getfield 5, 3) := zd zm_4014 (by decide +kernel)
theorem d_4014_66 {σ : Nat → Nat} {n0 : Nat} {bf : ab_B} : decode (ab_code (zx σ n0 bf).1 4014) 66 = .ok (.getfield 40, 3) := zd zm_4014 (by decide +kernel)
theorem d_4014_69 {σ : Nat → Nat} {n0 : Nat} {bf : ab_B} : decode (ab_code (zx σ n0 bf).1 4014) 69 = .ok (.sipush 256, 3) := zd zm_4014 (by decide +kernel)
theorem d_4014_72 {σ : Nat → Nat} {n0 : Nat} {bf : ab_B} : decode (ab_code (zx σ n0 bf).1 4014) 72 = .ok (.if_icmp .eq 29, 3) := zd zm_4014 (by decide +kernel)
theorem d_4014_75 {σ : Nat → Nat} {n0 : Nat} {bf : ab_B} : decode (ab_code (zx σ n0 bf).1 4014) 75 = .ok (.aload_n 0, 1) := zd zm_4014 (by decide +kernel)
theorem d_4014_76 {σ : Nat → Nat} {n0 : Nat} {bf : ab_B} : decode (ab_code (zx σ n0 bf).1 4014) 76 = .ok (.getfield 5, 3) := zd zm_4014 (by decide +kernel)
theorem d_4014_79 {σ : Nat → Nat} {n0 : Nat} {bf : ab_B} : decode (ab_code (zx σ n0 bf).1 4014) 79 = .ok (.getfield 40, 3) := zd zm_4014 (by decide +kernel)
theorem d_4014_82 {σ : Nat → Nat} {n0 : Nat} {bf : ab_B} : decode (ab_code (zx σ n0 bf).1 4014) 82 = .ok (.sipush 257, 3) := zd zm_4014 (by decide +kernel)
theorem d_4014_85 {σ : Nat → Nat} {n0 : Nat} {bf : ab_B} : decode (ab_code (zx σ n0 bf).1 4014) 85 = .ok (.if_icmp .eq 16, 3) := zd zm_4014 (by decide +kernel)
theorem d_4014_88 {σ : Nat → Nat} {n0 : Nat} {bf : ab_B} : decode (ab_code (zx σ n0 bf).1 4014) 88 = .ok (.aload_n 0, 1) := zd zm_4014 (by decide +kernel)
theorem d_4014_89 {σ : Nat → Nat} {n0 : Nat} {bf : ab_B} : decode (ab_code (zx σ n0 bf).1 4014) 89 = .ok (.getfield 5, 3) := zd zm_4014 (by decide +kernel)
theorem d_4014_92 {σ : Nat → Nat} {n0 : Nat} {bf : ab_B} : decode (ab_code (zx σ n0 bf).1 4014) 92 = .ok (.getfield 40, 3) := zd zm_4014 (by decide +kernel)
theorem d_4014_95 {σ : Nat → Nat} {n0 : Nat} {bf : ab_B} : decode (ab_code (zx σ n0 bf).1 4014) 95 = .ok (.sipush 258, 3) := zd zm_4014 (by decide +kernel)
theorem d_4014_98 {σ : Nat → Nat} {n0 : Nat} {bf : ab_B} : decode (ab_code (zx σ n0 bf).1 4014) 98 = .ok (.if_icmp .ne 7, 3) := zd zm_4014 (by decide +kernel)
theorem d_4014_101 {σ : Nat → Nat} {n0 : Nat} {bf : ab_B} : decode (ab_code (zx σ n0 bf).1 4014) 101 = .ok (.iconst 1, 1) := zd zm_4014 (by decide +kernel)
theorem d_4014_102 {σ : Nat → Nat} {n0 : Nat} {bf : ab_B} : decode (ab_code (zx σ n0 bf).1 4014) 102 = .ok (.goto 4, 3) := zd zm_4014 (by decide +kernel)
theorem d_4014_105 {σ : Nat → Nat} {n0 : Nat} {bf : ab_B} : decode (ab_code (zx σ n0 bf).1 4014) 105 = .ok (.iconst 0, 1) := zd zm_4014 (by decide +kernel)
theorem d_4014_106 {σ : Nat → Nat} {n0 : Nat} {bf : ab_B} : decode (ab_code (zx σ n0 bf).1 4014) 106 = .ok (.istore_n 3, 1) := zd zm_4014 (by decide +kernel)
theorem d_4014_107 {σ : Nat → Nat} {n0 : Nat} {bf : ab_B} : decode (ab_code (zx σ n0 bf).1 4014) 107 = .ok (.iload_n 3, 1) := zd zm_4014 (by decide +kernel)
theorem d_4014_108 {σ : Nat → Nat} {n0 : Nat} {bf : ab_B} : decode (ab_code (zx σ n0 bf).1 4014) 108 = .ok (.ifCond .ne 9, 3) := zd zm_4014 (by decide +kernel)
theorem d_4014_111 {σ : Nat → Nat} {n0 : Nat} {bf : ab_B} : decode (ab_code (zx σ n0 bf).1 4014) 111 = .ok (.iload_n 2, 1) := zd zm_4014 (by decide +kernel)
theorem d_4014_112 {σ : Nat → Nat} {n0 : Nat} {bf : ab_B} : decode (ab_code (zx σ n0 bf).1 4014) 112 = .ok (.ifCond .ne 5, 3) := zd zm_4014 (by decide +kernel)
theorem d_4014_115 {σ : Nat → Nat} {n0 : Nat} {bf : ab_B} : decode (ab_code (zx σ n0 bf).1 4014) 115 = .ok (.aload_n 1, 1) := zd zm_4014 (by decide +kernel)
theorem d_4014_116 {σ : Nat → Nat} {n0 : Nat} {bf : ab_B} : decode (ab_code (zx σ n0 bf).1 4014) 116 = .ok (.areturn, 1) := zd zm_4014 (by decide +kernel)
theorem d_4014_117 {σ : Nat → Nat} {n0 : Nat} {bf : ab_B} : decode (ab_code (zx σ n0 bf).1 4014) 117 = .ok (.aload_n 0, 1) := zd zm_4014 (by decide +kernel)
theorem d_4014_118 {σ : Nat → Nat} {n0 : Nat} {bf : ab_B} : decode (ab_code (zx σ n0 bf).1 4014) 118 = .ok (.bipush 8, 2) := zd zm_4014 (by decide +kernel)
theorem d_4014_120 {σ : Nat → Nat} {n0 : Nat} {bf : ab_B} : decode (ab_code (zx σ n0 bf).1 4014) 120 = .ok (.aload_n 0, 1) := zd zm_4014 (by decide +kernel)
theorem d_4014_121 {σ : Nat → Nat} {n0 : Nat} {bf : ab_B} : decode (ab_code (zx σ n0 bf).1 4014) 121 = .ok (.getfield 5, 3) := zd zm_4014 (by decide +kernel)
theorem d_4014_124 {σ : Nat → Nat} {n0 : Nat} {bf : ab_B} : decode (ab_code (zx σ n0 bf).1 4014) 124 = .ok (.getfield 11, 3) := zd zm_4014 (by decide +kernel)
theorem d_4014_127 {σ : Nat → Nat} {n0 : Nat} {bf : ab_B} : decode (ab_code (zx σ n0 bf).1 4014) 127 = .ok (.aload_n 0, 1) := zd zm_4014 (by decide +kernel)
theorem d_4014_128 {σ : Nat → Nat} {n0 : Nat} {bf : ab_B} : decode (ab_code (zx σ n0 bf).1 4014) 128 = .ok (.getfield 150, 3) := zd zm_4014 (by decide +kernel)
theorem d_4014_131 {σ : Nat → Nat} {n0 : Nat} {bf : ab_B} : decode (ab_code (zx σ n0 bf).1 4014) 131 = .ok (.invokevirtual 572, 3) := zd zm_4014 (by decide +kernel)
theorem d_4014_134 {σ : Nat → Nat} {n0 : Nat} {bf : ab_B} : decode (ab_code (zx σ n0 bf).1 4014) 134 = .ok (.astore 4, 2) := zd zm_4014 (by decide +kernel)
theorem d_4014_136 {σ : Nat → Nat} {n0 : Nat} {bf : ab_B} : decode (ab_code (zx σ n0 bf).1 4014) 136 = .ok (.aload 4, 2) := zd zm_4014 (by decide +kernel)
theorem d_4014_138 {σ : Nat → Nat} {n0 : Nat} {bf : ab_B} : decode (ab_code (zx σ n0 bf).1 4014) 138 = .ok (.iload_n 2, 1) := zd zm_4014 (by decide +kernel)
theorem d_4014_139 {σ : Nat → Nat} {n0 : Nat} {bf : ab_B} : decode (ab_code (zx σ n0 bf).1 4014) 139 = .ok (.ifCond .eq 9, 3) := zd zm_4014 (by decide +kernel)
theorem d_4014_142 {σ : Nat → Nat} {n0 : Nat} {bf : ab_B} : decode (ab_code (zx σ n0 bf).1 4014) 142 = .ok (.sipush 1033, 3) := zd zm_4014 (by decide +kernel)
theorem d_4014_145 {σ : Nat → Nat} {n0 : Nat} {bf : ab_B} : decode (ab_code (zx σ n0 bf).1 4014) 145 = .ok (.goto 10, 3) := zd zm_4014 (by decide +kernel)
theorem d_4014_148 {σ : Nat → Nat} {n0 : Nat} {bf : ab_B} : decode (ab_code (zx σ n0 bf).1 4014) 148 = .ok (.aload_n 0, 1) := zd zm_4014 (by decide +kernel)
theorem d_4014_149 {σ : Nat → Nat} {n0 : Nat} {bf : ab_B} : decode (ab_code (zx σ n0 bf).1 4014) 149 = .ok (.getfield 5, 3) := zd zm_4014 (by decide +kernel)
theorem d_4014_152 {σ : Nat → Nat} {n0 : Nat} {bf : ab_B} : decode (ab_code (zx σ n0 bf).1 4014) 152 = .ok (.getfield 40, 3) := zd zm_4014 (by decide +kernel)
theorem d_4014_155 {σ : Nat → Nat} {n0 : Nat} {bf : ab_B} : decode (ab_code (zx σ n0 bf).1 4014) 155 = .ok (.putfield 542, 3) := zd zm_4014 (by decide +kernel)
theorem d_4014_158 {σ : Nat → Nat} {n0 : Nat} {bf : ab_B} : decode (ab_code (zx σ n0 bf).1 4014) 158 = .ok (.aload_n 0, 1) := zd zm_4014 (by decide +kernel)
theorem d_4014_159 {σ : Nat → Nat} {n0 : Nat} {bf : ab_B} : decode (ab_code (zx σ n0 bf).1 4014) 159 = .ok (.getfield 5, 3) := zd zm_4014 (by decide +kernel)
theorem d_4014_162 {σ : Nat → Nat} {n0 : Nat} {bf : ab_B} : decode (ab_code (zx σ n0 bf).1 4014) 162 = .ok (.invokevirtual 29, 3) := zd zm_4014 (by decide +kernel)
theorem d_4014_165 {σ : Nat → Nat} {n0 : Nat} {bf : ab_B} : decode (ab_code (zx σ n0 bf).1 4014) 165 = .ok (.aload 4, 2) := zd zm_4014 (by decide +kernel)
theorem d_4014_167 {σ : Nat → Nat} {n0 : Nat} {bf : ab_B} : decode (ab_code (zx σ n0 bf).1 4014) 167 = .ok (.aload_n 1, 1) := zd zm_4014 (by decide +kernel)
theorem d_4014_168 {σ : Nat → Nat} {n0 : Nat} {bf : ab_B} : decode (ab_code (zx σ n0 bf).1 4014) 168 = .ok (.putfield 539, 3) := zd zm_4014 (by decide +kernel)
theorem d_4014_171 {σ : Nat → Nat} {n0 : Nat} {bf : ab_B} : decode (ab_code (zx σ n0 bf).1 4014) 171 = .ok (.aload 4, 2) := zd zm_4014 (by decide +kernel)
theorem d_4014_173 {σ : Nat → Nat} {n0 : Nat} {bf : ab_B} : decode (ab_code (zx σ n0 bf).1 4014) 173 = .ok (.aload_n 0, 1) := zd zm_4014 (by decide +kernel)
theorem d_4014_174 {σ : Nat → Nat} {n0 : Nat} {bf : ab_B} : decode (ab_code (zx σ n0 bf).1 4014) 174 = .ok (.invokevirtual 456, 3) := zd zm_4014 (by decide +kernel)
theorem d_4014_177 {σ : Nat → Nat} {n0 : Nat} {bf : ab_B} : decode (ab_code (zx σ n0 bf).1 4014) 177 = .ok (.putfield 536, 3) := zd zm_4014 (by decide +kernel)
theorem d_4014_180 {σ : Nat → Nat} {n0 : Nat} {bf : ab_B} : decode (ab_code (zx σ n0 bf).1 4014) 180 = .ok (.iload_n 2, 1) := zd zm_4014 (by decide +kernel)
theorem d_4014_181 {σ : Nat → Nat} {n0 : Nat} {bf : ab_B} : decode (ab_code (zx σ n0 bf).1 4014) 181 = .ok (.ifCond .eq 24, 3) := zd zm_4014 (by decide +kernel)
theorem d_4014_184 {σ : Nat → Nat} {n0 : Nat} {bf : ab_B} : decode (ab_code (zx σ n0 bf).1 4014) 184 = .ok (.aload_n 1, 1) := zd zm_4014 (by decide +kernel)
theorem d_4014_185 {σ : Nat → Nat} {n0 : Nat} {bf : ab_B} : decode (ab_code (zx σ n0 bf).1 4014) 185 = .ok (.getfield 297, 3) := zd zm_4014 (by decide +kernel)
theorem d_4014_188 {σ : Nat → Nat} {n0 : Nat} {bf : ab_B} : decode (ab_code (zx σ n0 bf).1 4014) 188 = .ok (.aload 4, 2) := zd zm_4014 (by decide +kernel)
theorem d_4014_190 {σ : Nat → Nat} {n0 : Nat} {bf : ab_B} : decode (ab_code (zx σ n0 bf).1 4014) 190 = .ok (.getfield 536, 3) := zd zm_4014 (by decide +kernel)
theorem d_4014_193 {σ : Nat → Nat} {n0 : Nat} {bf : ab_B} : decode (ab_code (zx σ n0 bf).1 4014) 193 = .ok (.getfield 297, 3) := zd zm_4014 (by decide +kernel)
theorem d_4014_196 {σ : Nat → Nat} {n0 : Nat} {bf : ab_B} : decode (ab_code (zx σ n0 bf).1 4014) 196 = .ok (.invokestatic 576, 3) := zd zm_4014 (by decide +kernel)
theorem d_4014_199 {σ : Nat → Nat} {n0 : Nat} {bf : ab_B} : decode (ab_code (zx σ n0 bf).1 4014) 199 = .ok (.ifCond .ne 35, 3) := zd zm_4014 (by decide +kernel)
theorem d_4014_202 {σ : Nat → Nat} {n0 : Nat} {bf : ab_B} : decode (ab_code (zx σ n0 bf).1 4014) 202 = .ok (.goto 26, 3) := zd zm_4014 (by decide +kernel)
theorem d_4014_205 {σ : Nat → Nat} {n0 : Nat} {bf : ab_B} : decode (ab_code (zx σ n0 bf).1 4014) 205 = .ok (.aload 4, 2) := zd zm_4014 (by decide +kernel)
theorem d_4014_207 {σ : Nat → Nat} {n0 : Nat} {bf : ab_B} : decode (ab_code (zx σ n0 bf).1 4014) 207 = .ok (.getfield 542, 3) := zd zm_4014 (by decide +kernel)
theorem d_4014_210 {σ : Nat → Nat} {n0 : Nat} {bf : ab_B} : decode (ab_code (zx σ n0 bf).1 4014) 210 = .ok (.aload_n 1, 1) := zd zm_4014 (by decide +kernel)
theorem d_4014_211 {σ : Nat → Nat} {n0 : Nat} {bf : ab_B} : decode (ab_code (zx σ n0 bf).1 4014) 211 = .ok (.getfield 297, 3) := zd zm_4014 (by decide +kernel)
theorem d_4014_214 {σ : Nat → Nat} {n0 : Nat} {bf : ab_B} : decode (ab_code (zx σ n0 bf).1 4014) 214 = .ok (.aload 4, 2) := zd zm_4014 (by decide +kernel)
theorem d_4014_216 {σ : Nat → Nat} {n0 : Nat} {bf : ab_B} : decode (ab_code (zx σ n0 bf).1 4014) 216 = .ok (.getfield 536, 3) := zd zm_4014 (by decide +kernel)
theorem d_4014_219 {σ : Nat → Nat} {n0 : Nat} {bf : ab_B} : decode (ab_code (zx σ n0 bf).1 4014) 219 = .ok (.getfield 297, 3) := zd zm_4014 (by decide +kernel)
theorem d_4014_222 {σ : Nat → Nat} {n0 : Nat} {bf : ab_B} : decode (ab_code (zx σ n0 bf).1 4014) 222 = .ok (.invokestatic 580, 3) := zd zm_4014 (by decide +kernel)
theorem d_4014_225 {σ : Nat → Nat} {n0 : Nat} {bf : ab_B} : decode (ab_code (zx σ n0 bf).1 4014) 225 = .ok (.ifCond .ne 9, 3) := zd zm_4014 (by decide +kernel)
theorem d_4014_228 {σ : Nat → Nat} {n0 : Nat} {bf : ab_B} : decode (ab_code (zx σ n0 bf).1 4014) 228 = .ok (.aload_n 0, 1) := zd zm_4014 (by decide +kernel)
theorem d_4014_229 {σ : Nat → Nat} {n0 : Nat} {bf : ab_B} : decode (ab_code (zx σ n0 bf).1 4014) 229 = .ok (.iconst 5, 1) := zd zm_4014 (by decide +kernel)
theorem d_4014_230 {σ : Nat → Nat} {n0 : Nat} {bf : ab_B} : decode (ab_code (zx σ n0 bf).1 4014) 230 = .ok (.invokevirtual 25, 3) := zd zm_4014 (by decide +kernel)
theorem d_4014_233 {σ : Nat → Nat} {n0 : Nat} {bf : ab_B} : decode (ab_code (zx σ n0 bf).1 4014) 233 = .ok (.athrow, 1) := zd zm_4014 (by decide +kernel)
theorem d_4014_234 {σ : Nat → Nat} {n0 : Nat} {bf : ab_B} : decode (ab_code (zx σ n0 bf).1 4014) 234 = .ok (.aload 4, 2) := zd zm_4014 (by decide +kernel)
theorem d_4014_236 {σ : Nat → Nat} {n0 : Nat} {bf : ab_B} : decode (ab_code (zx σ n0 bf).1 4014) 236 = .ok (.areturn, 1) := zd zm_4014 (by decide +kernel)
def w_X5_sum0_234 (X : zs_X) (d : Nat) (p4 : Option Nat) (S : zs_T) (Q : zs_Q) : Prop :=
  (Q (.returned (some (va_rf p4))) S)
theorem u_X5_sum0_234 {σ : Nat → Nat} {n0 : Nat} {bf : ab_B} {d : Nat} {p4 : Option Nat} {S : zs_T} {Q : zs_Q} (hB : zt_B bf) (h : w_X5_sum0_234 (zx σ n0 bf) d p4 S Q) : zs_U (zx σ n0 bf) d 4014 234 [(4, va_rf p4)] [] S Q := by
  unfold w_X5_sum0_234 at h
  refine zu_aload d_4014_234 rfl (zs_rr _) ?_
  exact zu_aret d_4014_236 zr_4014 (zs_rr _) h
def w_X5_sum0_228 (X : zs_X) (d : Nat) (p0 : Nat) (S : zs_T) (Q : zs_Q) : Prop :=
  (zs_K S p0 = some (.inl 4) ∧ zs_C X d 4006 [.ref p0, .int (5 : Int32)] S (zs_kR (fun v3 S2 => (∃ b4, v3 = some b4 ∧ Q (.threw b4) S2)) Q))
theorem u_X5_sum0_228 {σ : Nat → Nat} {n0 : Nat} {bf : ab_B} {d : Nat} {p0 : Nat} {S : zs_T} {Q : zs_Q} (hB : zt_B bf) (h : w_X5_sum0_228 (zx σ n0 bf) d p0 S Q) : zs_U (zx σ n0 bf) d 4014 228 [(0, .ref p0)] [] S Q := by
  unfold w_X5_sum0_228 at h
  refine zu_aload_n d_4014_228 rfl (zs_ra _) ?_
  refine zu_iconst d_4014_229 zi_5 ?_
  obtain ⟨k1, h⟩ := h
  refine zc_4_25 (x0 := (5 : Int32)) hB rfl k1 d_4014_230 (Nat.le_of_ble_eq_true rfl) h (fun v3 S2 h => ?_)
  obtain ⟨b4, e5, h⟩ := h
  refine zs_stk0 (zs_rfe e5) ?_
  exact zu_throw d_4014_233 h
def w_X5_sum0_202 (X : zs_X) (d : Nat) (p0 : Nat) (S : zs_T) (Q : zs_Q) : Prop :=
  (w_X5_sum0_228 X d p0 S Q)
theorem u_X5_sum0_202 {σ : Nat → Nat} {n0 : Nat} {bf : ab_B} {d : Nat} {p0 : Nat} {S : zs_T} {Q : zs_Q} (hB : zt_B bf) (h : w_X5_sum0_202 (zx σ n0 bf) d p0 S Q) : zs_U (zx σ n0 bf) d 4014 202 [(0, .ref p0)] [] S Q := by
  unfold w_X5_sum0_202 at h
  refine zu_goto (t := 228) d_4014_202 rfl ?_
  exact (u_X5_sum0_228 hB h).weak ⟨rfl, trivial⟩
def w_X5_sum0_155 (X : zs_X) (d : Nat) (p0 : Nat) (p1 : Option Nat) (p2 : Int32) (p4 : Option Nat) (q0 : Option Nat) (q1 : Int32) (S : zs_T) (Q : zs_Q) : Prop :=
  (∃ b1, q0 = some b1 ∧ zs_K S b1 = some (.inl 11) ∧ ab_n0 X.1 ≤ b1 ∧ ∀ S5, S5 = zs_sI S 11003 b1 q1 → zs_K S p0 = some (.inl 4) ∧ ∃ b9, (zs_R S5 4000 p0) = some b9 ∧ zs_K S b9 = some (.inl 5) ∧ zs_C X d 5004 [.ref b9] S5 (zs_kV (fun S12 => (∃ b14, p4 = some b14 ∧ zs_K S12 b14 = some (.inl 11) ∧ ab_n0 X.1 ≤ b14 ∧ ∀ S18, S18 = zs_sR S12 11005 b14 p1 → zs_K S12 p0 = some (.inl 4) ∧ zs_C X d 4015 [.ref p0] S18 (zs_kR (fun v23 S22 => (zs_K S22 b14 = some (.inl 11) ∧ ∀ S25, S25 = zs_sR S22 11006 b14 v23 → ((p2 = 0 → (∃ b29, p1 = some b29 ∧ zs_K S22 b29 = some (.inl 11) ∧ ∃ b32, (zs_R S25 11006 b14) = some b32 ∧ zs_K S22 b32 = some (.inl 11) ∧ zs_C X d 4056 [.int (zs_I S25 11003 b14), va_rf (zs_R S25 11002 b29), va_rf (zs_R S25 11002 b32)] S25 (zs_kI (fun v36 S35 => (((¬ v36 = 0 → w_X5_sum0_234 X d p4 S35 Q) ∧ (¬ (¬ v36 = 0) → w_X5_sum0_228 X d p0 S35 Q)))) Q))) ∧ (¬ (p2 = 0) → (∃ b38, p1 = some b38 ∧ zs_K S22 b38 = some (.inl 11) ∧ ∃ b41, (zs_R S25 11006 b14) = some b41 ∧ zs_K S22 b41 = some (.inl 11) ∧ zs_C X d 4055 [va_rf (zs_R S25 11002 b38), va_rf (zs_R S25 11002 b41)] S25 (zs_kI (fun v45 S44 => (((¬ v45 = 0 → w_X5_sum0_234 X d p4 S44 Q) ∧ (¬ (¬ v45 = 0) → w_X5_sum0_202 X d p0 S44 Q)))) Q)))))) Q))) Q))
theorem u_X5_sum0_155 {σ : Nat → Nat} {n0 : Nat} {bf : ab_B} {d : Nat} {p0 : Nat} {p1 : Option Nat} {p2 : Int32} {p4 : Option Nat} {q0 : Option Nat} {q1 : Int32} {S : zs_T} {Q : zs_Q} (hB : zt_B bf) (h : w_X5_sum0_155 (zx σ n0 bf) d p0 p1 p2 p4 q0 q1 S Q) : zs_U (zx σ n0 bf) d 4014 155 [(0, .ref p0), (1, va_rf p1), (2, .int p2), (4, va_rf p4)] [.int q1, va_rf q0] S Q := by
  unfold w_X5_sum0_155 at h
  obtain ⟨b1, e2, h⟩ := h
  refine zs_stk1 (zs_rfe e2) ?_
  obtain ⟨k3, h⟩ := h
  obtain ⟨k4, h⟩ := h
  refine zp_4_542 (v := q1) rfl d_4014_155 k3 k4 ?_
  generalize e6 : zs_sI S 11003 b1 q1 = S5
  have h := h S5 e6.symm
  have K7 : ∀ b, zs_K S5 b = zs_K S b := zs_Kt e6 (zs_KsI _ _ _ _) (fun _ => rfl)
  refine zu_aload_n d_4014_158 rfl (zs_ra _) ?_
  obtain ⟨k8, h⟩ := h
  refine zg_4_5 rfl d_4014_159 ((K7 _).trans k8) ?_
  obtain ⟨b9, e10, h⟩ := h
  refine zs_stk0 (zs_rfe e10) ?_
  obtain ⟨k11, h⟩ := h
  refine zc_4_29  hB rfl ((K7 _).trans k11) d_4014_162 (Nat.le_of_ble_eq_true rfl) h (fun S12 h => ?_)
  refine zu_aload d_4014_165 rfl (zs_rr _) ?_
  refine zu_aload_n d_4014_167 rfl (zs_rr _) ?_
  obtain ⟨b14, e15, h⟩ := h
  refine zs_stk1 (zs_rfe e15) ?_
  obtain ⟨k16, h⟩ := h
  obtain ⟨k17, h⟩ := h
  refine zp_4_539 (v := p1) rfl d_4014_168 k16 k17 ?_
  generalize e19 : zs_sR S12 11005 b14 p1 = S18
  have h := h S18 e19.symm
  have K20 : ∀ b, zs_K S18 b = zs_K S12 b := zs_Kt e19 (zs_KsR _ _ _ _) (fun _ => rfl)
  refine zu_aload d_4014_171 rfl (zs_rr _) ?_
  refine zu_aload_n d_4014_173 rfl (zs_ra _) ?_
  obtain ⟨k21, h⟩ := h
  refine zc_4_456  hB rfl ((K20 _).trans k21) d_4014_174 (by simp only [List.map_cons, List.map_nil, List.sum_cons, List.sum_nil, zs_cat, zs_cI, zs_cJ, zs_cA]; exact Nat.le_of_ble_eq_true rfl) h (fun v23 S22 h => ?_)
  refine zs_stk1 (zs_rfe e15) ?_
  obtain ⟨k24, h⟩ := h
  refine zp_4_536 (v := v23) rfl d_4014_177 k24 k17 ?_
  generalize e26 : zs_sR S22 11006 b14 v23 = S25
  have h := h S25 e26.symm
  have K27 : ∀ b, zs_K S25 b = zs_K S22 b := zs_Kt e26 (zs_KsR _ _ _ _) (fun _ => rfl)
  refine zu_iload_n d_4014_180 rfl ?_
  refine zu_ifeq (t := 205) d_4014_181 rfl (fun c28 => ?_) (fun c28 => ?_)
  · have h := h.1 c28
    refine zu_aload d_4014_205 rfl (zs_rr _) ?_
    refine zs_stk0 (zs_rfe e15) ?_
    refine zg_4_542 rfl d_4014_207 ((K27 _).trans k24) ?_
    refine zu_aload_n d_4014_210 rfl (zs_rr _) ?_
    obtain ⟨b29, e30, h⟩ := h
    refine zs_stk0 (zs_rfe e30) ?_
    obtain ⟨k31, h⟩ := h
    refine zg_4_297 rfl d_4014_211 ((K27 _).trans k31) ?_
    refine zu_aload d_4014_214 rfl (zs_rr _) ?_
    refine zs_stk0 (zs_rfe e15) ?_
    refine zg_4_536 rfl d_4014_216 ((K27 _).trans k24) ?_
    obtain ⟨b32, e33, h⟩ := h
    refine zs_stk0 (zs_rfe e33) ?_
    obtain ⟨k34, h⟩ := h
    refine zg_4_297 rfl d_4014_219 ((K27 _).trans k34) ?_
    refine zc_4_580 (x0 := (zs_I S25 11003 b14)) (x1 := (zs_R S25 11002 b29)) (x2 := (zs_R S25 11002 b32)) hB rfl d_4014_222 (Nat.le_of_ble_eq_true rfl) h (fun v36 S35 h => ?_)
    refine zu_ifne (t := 234) d_4014_225 rfl (fun c37 => ?_) (fun c37 => ?_)
    · have h := h.1 c37
      exact (u_X5_sum0_234 hB h).weak ⟨rfl, trivial⟩
    · have h := h.2 c37
      exact (u_X5_sum0_228 hB h).weak ⟨rfl, trivial⟩
  · have h := h.2 c28
    refine zu_aload_n d_4014_184 rfl (zs_rr _) ?_
    obtain ⟨b38, e39, h⟩ := h
    refine zs_stk0 (zs_rfe e39) ?_
    obtain ⟨k40, h⟩ := h
    refine zg_4_297 rfl d_4014_185 ((K27 _).trans k40) ?_
    refine zu_aload d_4014_188 rfl (zs_rr _) ?_
    refine zs_stk0 (zs_rfe e15) ?_
    refine zg_4_536 rfl d_4014_190 ((K27 _).trans k24) ?_
    obtain ⟨b41, e42, h⟩ := h
    refine zs_stk0 (zs_rfe e42) ?_
    obtain ⟨k43, h⟩ := h
    refine zg_4_297 rfl d_4014_193 ((K27 _).trans k43) ?_
    refine zc_4_576 (x0 := (zs_R S25 11002 b38)) (x1 := (zs_R S25 11002 b41)) hB rfl d_4014_196 (Nat.le_of_ble_eq_true rfl) h (fun v45 S44 h => ?_)
    refine zu_ifne (t := 234) d_4014_199 rfl (fun c46 => ?_) (fun c46 => ?_)
    · have h := h.1 c46
      exact (u_X5_sum0_234 hB h).weak ⟨rfl, trivial⟩
    · have h := h.2 c46
      exact (u_X5_sum0_202 hB h).weak ⟨rfl, trivial⟩
def w_X5_sum0_117 (X : zs_X) (d : Nat) (p0 : Nat) (p1 : Option Nat) (p2 : Int32) (S : zs_T) (Q : zs_Q) : Prop :=
  (zs_K S p0 = some (.inl 4) ∧ ∃ b2, (zs_R S 4000 p0) = some b2 ∧ zs_K S b2 = some (.inl 5) ∧ zs_C X d 4016 [.ref p0, .int (8 : Int32), .int (zs_I S 5005 b2), va_rf (zs_R S 4003 p0)] S (zs_kR (fun v6 S5 => (((p2 = 0 → (zs_K S5 p0 = some (.inl 4) ∧ ∃ b9, (zs_R S5 4000 p0) = some b9 ∧ zs_K S5 b9 = some (.inl 5) ∧ w_X5_sum0_155 X d p0 p1 p2 v6 v6 (zs_I S5 5004 b9) S5 Q)) ∧ (¬ (p2 = 0) → (w_X5_sum0_155 X d p0 p1 p2 v6 v6 (1033 : Int32) S5 Q))))) Q))
theorem u_X5_sum0_117 {σ : Nat → Nat} {n0 : Nat} {bf : ab_B} {d : Nat} {p0 : Nat} {p1 : Option Nat} {p2 : Int32} {S : zs_T} {Q : zs_Q} (hB : zt_B bf) (h : w_X5_sum0_117 (zx σ n0 bf) d p0 p1 p2 S Q) : zs_U (zx σ n0 bf) d 4014 117 [(0, .ref p0), (1, va_rf p1), (2, .int p2)] [] S Q := by
  unfold w_X5_sum0_117 at h
  refine zu_aload_n d_4014_117 rfl (zs_ra _) ?_
  refine zu_bipush d_4014_118 zj_8 ?_
  refine zu_aload_n d_4014_120 rfl (zs_ra _) ?_
  obtain ⟨k1, h⟩ := h
  refine zg_4_5 rfl d_4014_121 k1 ?_
  obtain ⟨b2, e3, h⟩ := h
  refine zs_stk0 (zs_rfe e3) ?_
  obtain ⟨k4, h⟩ := h
  refine zg_4_11 rfl d_4014_124 k4 ?_
  refine zu_aload_n d_4014_127 rfl (zs_ra _) ?_
  refine zg_4_150 rfl d_4014_128 k1 ?_
  refine zc_4_572 (x0 := (8 : Int32)) (x1 := (zs_I S 5005 b2)) (x2 := (zs_R S 4003 p0)) hB rfl k1 d_4014_131 (Nat.le_of_ble_eq_true rfl) h (fun v6 S5 h => ?_)
  refine zu_astore d_4014_134 (zs_rr _) (zs_lt zq_4014 rfl) ?_
  refine zu_aload d_4014_136 rfl (zs_rr _) ?_
  refine zu_iload_n d_4014_138 rfl ?_
  refine zu_ifeq (t := 148) d_4014_139 rfl (fun c7 => ?_) (fun c7 => ?_)
  · have h := h.1 c7
    refine zu_aload_n d_4014_148 rfl (zs_ra _) ?_
    obtain ⟨k8, h⟩ := h
    refine zg_4_5 rfl d_4014_149 k8 ?_
    obtain ⟨b9, e10, h⟩ := h
    refine zs_stk0 (zs_rfe e10) ?_
    obtain ⟨k11, h⟩ := h
    refine zg_4_40 rfl d_4014_152 k11 ?_
    exact (u_X5_sum0_155 hB h).weak ⟨rfl, rfl, rfl, rfl, trivial⟩
  · have h := h.2 c7
    refine zu_sipush d_4014_142 zh_1033 ?_
    refine zu_goto (t := 155) d_4014_145 rfl ?_
    exact (u_X5_sum0_155 hB h).weak ⟨rfl, rfl, rfl, rfl, trivial⟩
def w_X5_sum0_106 (X : zs_X) (d : Nat) (p0 : Nat) (p1 : Option Nat) (p2 : Int32) (q0 : Int32) (S : zs_T) (Q : zs_Q) : Prop :=
  (((¬ q0 = 0 → w_X5_sum0_117 X d p0 p1 p2 S Q) ∧ (¬ (¬ q0 = 0) → (((¬ p2 = 0 → w_X5_sum0_117 X d p0 p1 p2 S Q) ∧ (¬ (¬ p2 = 0) → (Q (.returned (some (va_rf p1))) S)))))))
theorem u_X5_sum0_106 {σ : Nat → Nat} {n0 : Nat} {bf : ab_B} {d : Nat} {p0 : Nat} {p1 : Option Nat} {p2 : Int32} {q0 : Int32} {S : zs_T} {Q : zs_Q} (hB : zt_B bf) (h : w_X5_sum0_106 (zx σ n0 bf) d p0 p1 p2 q0 S Q) : zs_U (zx σ n0 bf) d 4014 106 [(0, .ref p0), (1, va_rf p1), (2, .int p2)] [.int q0] S Q := by
  unfold w_X5_sum0_106 at h
  refine zu_istore_n d_4014_106 (zs_lt zq_4014 rfl) ?_
  refine zu_iload_n d_4014_107 rfl ?_
  refine zu_ifne (t := 117) d_4014_108 rfl (fun c1 => ?_) (fun c1 => ?_)
  · have h := h.1 c1
    exact (u_X5_sum0_117 hB h).weak ⟨rfl, rfl, rfl, trivial⟩
  · have h := h.2 c1
    refine zu_iload_n d_4014_111 rfl ?_
    refine zu_ifne (t := 117) d_4014_112 rfl (fun c2 => ?_) (fun c2 => ?_)
    · have h := h.1 c2
      exact (u_X5_sum0_117 hB h).weak ⟨rfl, rfl, rfl, trivial⟩
    · have h := h.2 c2
      refine zu_aload_n d_4014_115 rfl (zs_rr _) ?_
      exact zu_aret d_4014_116 zr_4014 (zs_rr _) h
def w_X5_sum0_101 (X : zs_X) (d : Nat) (p0 : Nat) (p1 : Option Nat) (p2 : Int32) (S : zs_T) (Q : zs_Q) : Prop :=
  (w_X5_sum0_106 X d p0 p1 p2 (1 : Int32) S Q)
theorem u_X5_sum0_101 {σ : Nat → Nat} {n0 : Nat} {bf : ab_B} {d : Nat} {p0 : Nat} {p1 : Option Nat} {p2 : Int32} {S : zs_T} {Q : zs_Q} (hB : zt_B bf) (h : w_X5_sum0_101 (zx σ n0 bf) d p0 p1 p2 S Q) : zs_U (zx σ n0 bf) d 4014 101 [(0, .ref p0), (1, va_rf p1), (2, .int p2)] [] S Q := by
  unfold w_X5_sum0_101 at h
  refine zu_iconst d_4014_101 zi_1 ?_
  refine zu_goto (t := 106) d_4014_102 rfl ?_
  exact (u_X5_sum0_106 hB h).weak ⟨rfl, rfl, rfl, trivial⟩
def w_X5_sum0_105 (X : zs_X) (d : Nat) (p0 : Nat) (p1 : Option Nat) (p2 : Int32) (S : zs_T) (Q : zs_Q) : Prop :=
  (w_X5_sum0_106 X d p0 p1 p2 (0 : Int32) S Q)
theorem u_X5_sum0_105 {σ : Nat → Nat} {n0 : Nat} {bf : ab_B} {d : Nat} {p0 : Nat} {p1 : Option Nat} {p2 : Int32} {S : zs_T} {Q : zs_Q} (hB : zt_B bf) (h : w_X5_sum0_105 (zx σ n0 bf) d p0 p1 p2 S Q) : zs_U (zx σ n0 bf) d 4014 105 [(0, .ref p0), (1, va_rf p1), (2, .int p2)] [] S Q := by
  unfold w_X5_sum0_105 at h
  refine zu_iconst d_4014_105 zi_0 ?_
  exact (u_X5_sum0_106 hB h).weak ⟨rfl, rfl, rfl, trivial⟩
def w_X5_sum0_88 (X : zs_X) (d : Nat) (p0 : Nat) (p1 : Option Nat) (p2 : Int32) (S : zs_T) (Q : zs_Q) : Prop :=
  (zs_K S p0 = some (.inl 4) ∧ ∃ b2, (zs_R S 4000 p0) = some b2 ∧ zs_K S b2 = some (.inl 5) ∧ ((¬ (zs_I S 5004 b2) = (258 : Int32) → w_X5_sum0_105 X d p0 p1 p2 S Q) ∧ (¬ (¬ (zs_I S 5004 b2) = (258 : Int32)) → w_X5_sum0_101 X d p0 p1 p2 S Q)))
theorem u_X5_sum0_88 {σ : Nat → Nat} {n0 : Nat} {bf : ab_B} {d : Nat} {p0 : Nat} {p1 : Option Nat} {p2 : Int32} {S : zs_T} {Q : zs_Q} (hB : zt_B bf) (h : w_X5_sum0_88 (zx σ n0 bf) d p0 p1 p2 S Q) : zs_U (zx σ n0 bf) d 4014 88 [(0, .ref p0), (1, va_rf p1), (2, .int p2)] [] S Q := by
  unfold w_X5_sum0_88 at h
  refine zu_aload_n d_4014_88 rfl (zs_ra _) ?_
  obtain ⟨k1, h⟩ := h
  refine zg_4_5 rfl d_4014_89 k1 ?_
  obtain ⟨b2, e3, h⟩ := h
  refine zs_stk0 (zs_rfe e3) ?_
  obtain ⟨k4, h⟩ := h
  refine zg_4_40 rfl d_4014_92 k4 ?_
  refine zu_sipush d_4014_95 zh_258 ?_
  refine zu_cmpne (t := 105) d_4014_98 rfl (fun c5 => ?_) (fun c5 => ?_)
  · have h := h.1 c5
    exact (u_X5_sum0_105 hB h).weak ⟨rfl, rfl, rfl, trivial⟩
  · have h := h.2 c5
    exact (u_X5_sum0_101 hB h).weak ⟨rfl, rfl, rfl, trivial⟩
def w_X5_sum0_38 (X : zs_X) (d : Nat) (p0 : Nat) (p1 : Option Nat) (p2 : Int32) (S : zs_T) (Q : zs_Q) : Prop :=
  (zs_K S p0 = some (.inl 4) ∧ ∃ b2, (zs_R S 4000 p0) = some b2 ∧ zs_K S b2 = some (.inl 5) ∧ (((zs_I S 5004 b2) = (60 : Int32) → w_X5_sum0_101 X d p0 p1 p2 S Q) ∧ (¬ ((zs_I S 5004 b2) = (60 : Int32)) → ((((zs_I S 5004 b2) = (62 : Int32) → w_X5_sum0_101 X d p0 p1 p2 S Q) ∧ (¬ ((zs_I S 5004 b2) = (62 : Int32)) → ((((zs_I S 5004 b2) = (256 : Int32) → w_X5_sum0_101 X d p0 p1 p2 S Q) ∧ (¬ ((zs_I S 5004 b2) = (256 : Int32)) → ((((zs_I S 5004 b2) = (257 : Int32) → w_X5_sum0_101 X d p0 p1 p2 S Q) ∧ (¬ ((zs_I S 5004 b2) = (257 : Int32)) → w_X5_sum0_88 X d p0 p1 p2 S Q))))))))))))
theorem u_X5_sum0_38 {σ : Nat → Nat} {n0 : Nat} {bf : ab_B} {d : Nat} {p0 : Nat} {p1 : Option Nat} {p2 : Int32} {S : zs_T} {Q : zs_Q} (hB : zt_B bf) (h : w_X5_sum0_38 (zx σ n0 bf) d p0 p1 p2 S Q) : zs_U (zx σ n0 bf) d 4014 38 [(0, .ref p0), (1, va_rf p1), (2, .int p2)] [] S Q := by
  unfold w_X5_sum0_38 at h
  refine zu_aload_n d_4014_38 rfl (zs_ra _) ?_
  obtain ⟨k1, h⟩ := h
  refine zg_4_5 rfl d_4014_39 k1 ?_
  obtain ⟨b2, e3, h⟩ := h
  refine zs_stk0 (zs_rfe e3) ?_
  obtain ⟨k4, h⟩ := h
  refine zg_4_40 rfl d_4014_42 k4 ?_
  refine zu_bipush d_4014_45 zj_60 ?_
  refine zu_cmpeq (t := 101) d_4014_47 rfl (fun c5 => ?_) (fun c5 => ?_)
  · have h := h.1 c5
    exact (u_X5_sum0_101 hB h).weak ⟨rfl, rfl, rfl, trivial⟩
  · have h := h.2 c5
    refine zu_aload_n d_4014_50 rfl (zs_ra _) ?_
    refine zg_4_5 rfl d_4014_51 k1 ?_
    refine zs_stk0 (zs_rfe e3) ?_
    refine zg_4_40 rfl d_4014_54 k4 ?_
    refine zu_bipush d_4014_57 zj_62 ?_
    refine zu_cmpeq (t := 101) d_4014_59 rfl (fun c6 => ?_) (fun c6 => ?_)
    · have h := h.1 c6
      exact (u_X5_sum0_101 hB h).weak ⟨rfl, rfl, rfl, trivial⟩
    · have h := h.2 c6
      refine zu_aload_n d_4014_62 rfl (zs_ra _) ?_
      refine zg_4_5 rfl d_4014_63 k1 ?_
      refine zs_stk0 (zs_rfe e3) ?_
      refine zg_4_40 rfl d_4014_66 k4 ?_
      refine zu_sipush d_4014_69 zh_256 ?_
      refine zu_cmpeq (t := 101) d_4014_72 rfl (fun c7 => ?_) (fun c7 => ?_)
      · have h := h.1 c7
        exact (u_X5_sum0_101 hB h).weak ⟨rfl, rfl, rfl, trivial⟩
      · have h := h.2 c7
        refine zu_aload_n d_4014_75 rfl (zs_ra _) ?_
        refine zg_4_5 rfl d_4014_76 k1 ?_
        refine zs_stk0 (zs_rfe e3) ?_
        refine zg_4_40 rfl d_4014_79 k4 ?_
        refine zu_sipush d_4014_82 zh_257 ?_
        refine zu_cmpeq (t := 101) d_4014_85 rfl (fun c8 => ?_) (fun c8 => ?_)
        · have h := h.1 c8
          exact (u_X5_sum0_101 hB h).weak ⟨rfl, rfl, rfl, trivial⟩
        · have h := h.2 c8
          exact (u_X5_sum0_88 hB h).weak ⟨rfl, rfl, rfl, trivial⟩
def w_X5_sum0 (X : zs_X) (d : Nat) (p0 : Nat) (S : zs_T) (Q : zs_Q) : Prop :=
  (zs_K S p0 = some (.inl 4) ∧ zs_C X d 4015 [.ref p0] S (zs_kR (fun v3 S2 => (zs_K S2 p0 = some (.inl 4) ∧ ∃ b5, (zs_R S2 4000 p0) = some b5 ∧ zs_K S2 b5 = some (.inl 5) ∧ zs_C X d 5015 [.ref b5, .int (33 : Int32)] S2 (zs_kI (fun v9 S8 => (zs_K S8 p0 = some (.inl 4) ∧ ∃ b11, (zs_R S8 4000 p0) = some b11 ∧ zs_K S8 b11 = some (.inl 5) ∧ ((¬ (zs_I S8 5003 b11) = (3 : Int32) → w_X5_sum0_105 X d p0 v3 v9 S8 Q) ∧ (¬ (¬ (zs_I S8 5003 b11) = (3 : Int32)) → ((((zs_I S8 5004 b11) = (61 : Int32) → w_X5_sum0_101 X d p0 v3 v9 S8 Q) ∧ (¬ ((zs_I S8 5004 b11) = (61 : Int32)) → w_X5_sum0_38 X d p0 v3 v9 S8 Q))))))) Q))) Q))
theorem u_X5_sum0 {σ : Nat → Nat} {n0 : Nat} {bf : ab_B} {d : Nat} {p0 : Nat} {S : zs_T} {Q : zs_Q} (hB : zt_B bf) (hd : 1 ≤ d) (h : w_X5_sum0 (zx σ n0 bf) (d - 1) p0 S Q) : zs_C (zx σ n0 bf) d 4014 [.ref p0] S Q := by
  have hL : lv_args 0 [.ref p0] = [(0, .ref p0)] := rfl
  refine zs_C.of1 (hB.2 4014 (by decide) (by decide)) hd (by rw [hL]; exact zs_sub_self _ (by exact ⟨rfl, trivial⟩)) ?_
  rw [hL]
  clear hL
  unfold w_X5_sum0 at h
  refine zu_aload_n d_4014_0 rfl (zs_ra _) ?_
  obtain ⟨k1, h⟩ := h
  refine zc_4_456  hB rfl k1 d_4014_1 (Nat.le_of_ble_eq_true rfl) h (fun v3 S2 h => ?_)
  refine zu_astore_n d_4014_4 (zs_rr _) (zs_lt zq_4014 rfl) ?_
  refine zu_aload_n d_4014_5 rfl (zs_ra _) ?_
  obtain ⟨k4, h⟩ := h
  refine zg_4_5 rfl d_4014_6 k4 ?_
  refine zu_bipush d_4014_9 zj_33 ?_
  obtain ⟨b5, e6, h⟩ := h
  refine zs_stk1 (zs_rfe e6) ?_
  obtain ⟨k7, h⟩ := h
  refine zc_4_33 (x0 := (33 : Int32)) hB rfl k7 d_4014_11 (Nat.le_of_ble_eq_true rfl) h (fun v9 S8 h => ?_)
  refine zu_istore_n d_4014_14 (zs_lt zq_4014 rfl) ?_
  refine zs_U.weak (L1 := [(2, .int v9), (0, .ref p0), (1, va_rf v3)]) ?_ ⟨rfl, zs_gp1 rfl (Or.inl rfl) rfl, zs_gp1 rfl (Or.inl (zs_cat _)) rfl, trivial⟩
  refine zu_aload_n d_4014_15 rfl (zs_ra _) ?_
  obtain ⟨k10, h⟩ := h
  refine zg_4_5 rfl d_4014_16 k10 ?_
  obtain ⟨b11, e12, h⟩ := h
  refine zs_stk0 (zs_rfe e12) ?_
  obtain ⟨k13, h⟩ := h
  refine zg_4_231 rfl d_4014_19 k13 ?_
  refine zu_iconst d_4014_22 zi_3 ?_
  refine zu_cmpne (t := 105) d_4014_23 rfl (fun c14 => ?_) (fun c14 => ?_)
  · have h := h.1 c14
    exact (u_X5_sum0_105 hB h).weak ⟨rfl, rfl, rfl, trivial⟩
  · have h := h.2 c14
    refine zu_aload_n d_4014_26 rfl (zs_ra _) ?_
    refine zg_4_5 rfl d_4014_27 k10 ?_
    refine zs_stk0 (zs_rfe e12) ?_
    refine zg_4_40 rfl d_4014_30 k13 ?_
    refine zu_bipush d_4014_33 zj_61 ?_
    refine zu_cmpeq (t := 101) d_4014_35 rfl (fun c15 => ?_) (fun c15 => ?_)
    · have h := h.1 c15
      exact (u_X5_sum0_101 hB h).weak ⟨rfl, rfl, rfl, trivial⟩
    · have h := h.2 c15
      exact (u_X5_sum0_38 hB h).weak ⟨rfl, rfl, rfl, trivial⟩
/-! SchemaPascal$Reader.sum()LSchemaPascal$Node; -/
theorem zm_4015 {σ : Nat → Nat} {n0 : Nat} {bf : ab_B} : ab_code (zx σ n0 bf).1 4015 = prog_9_method_60_code := rfl
theorem zq_4015 {σ : Nat → Nat} {n0 : Nat} {bf : ab_B} : ab_maxL (zx σ n0 bf).1 4015 = 4 := rfl
theorem zr_4015 {σ : Nat → Nat} {n0 : Nat} {bf : ab_B} : ab_ret (zx σ n0 bf).1 4015 = (Option.some (Jvm.ClassFile.FieldType.object "SchemaPascal$Node")) := rfl
theorem d_4015_0 {σ : Nat → Nat} {n0 : Nat} {bf : ab_B} : decode (ab_code (zx σ n0 bf).1 4015) 0 = .ok (.aload_n 0, 1) := zd zm_4015 (by decide +kernel)
theorem d_4015_1 {σ : Nat → Nat} {n0 : Nat} {bf : ab_B} : decode (ab_code (zx σ n0 bf).1 4015) 1 = .ok (.getfield 5, 3) := zd zm_4015 (by decide +kernel)
theorem d_4015_4 {σ : Nat → Nat} {n0 : Nat} {bf : ab_B} : decode (ab_code (zx σ n0 bf).1 4015) 4 = .ok (.bipush 43, 2) := zd zm_4015 (by decide +kernel)
theorem d_4015_6 {σ : Nat → Nat} {n0 : Nat} {bf : ab_B} : decode (ab_code (zx σ n0 bf).1 4015) 6 = .ok (.invokevirtual 21, 3) := zd zm_4015 (by decide +kernel)
theorem d_4015_9 {σ : Nat → Nat} {n0 : Nat} {bf : ab_B} : decode (ab_code (zx σ n0 bf).1 4015) 9 = .ok (.ifCond .ne 15, 3) := zd zm_4015 (by decide +kernel)
theorem d_4015_12 {σ : Nat → Nat} {n0 : Nat} {bf : ab_B} : decode (ab_code (zx σ n0 bf).1 4015) 12 = .ok (.aload_n 0, 1) := zd zm_4015 (by decide +kernel)
theorem d_4015_13 {σ : Nat → Nat} {n0 : Nat} {bf : ab_B} : decode (ab_code (zx σ n0 bf).1 4015) 13 = .ok (.getfield 5, 3) := zd zm_4015 (by decide +kernel)
theorem d_4015_16 {σ : Nat → Nat} {n0 : Nat} {bf : ab_B} : decode (ab_code (zx σ n0 bf).1 4015) 16 = .ok (.bipush 45, 2) := zd zm_4015 (by decide +kernel)
theorem d_4015_18 {σ : Nat → Nat} {n0 : Nat} {bf : ab_B} : decode (ab_code (zx σ n0 bf).1 4015) 18 = .ok (.invokevirtual 21, 3) := zd zm_4015 (by decide +kernel)
theorem d_4015_21 {σ : Nat → Nat} {n0 : Nat} {bf : ab_B} : decode (ab_code (zx σ n0 bf).1 4015) 21 = .ok (.ifCond .eq 104, 3) := zd zm_4015 (by decide +kernel)
theorem d_4015_24 {σ : Nat → Nat} {n0 : Nat} {bf : ab_B} : decode (ab_code (zx σ n0 bf).1 4015) 24 = .ok (.aload_n 0, 1) := zd zm_4015 (by decide +kernel)
theorem d_4015_25 {σ : Nat → Nat} {n0 : Nat} {bf : ab_B} : decode (ab_code (zx σ n0 bf).1 4015) 25 = .ok (.getfield 5, 3) := zd zm_4015 (by decide +kernel)
theorem d_4015_28 {σ : Nat → Nat} {n0 : Nat} {bf : ab_B} : decode (ab_code (zx σ n0 bf).1 4015) 28 = .ok (.bipush 45, 2) := zd zm_4015 (by decide +kernel)
theorem d_4015_30 {σ : Nat → Nat} {n0 : Nat} {bf : ab_B} : decode (ab_code (zx σ n0 bf).1 4015) 30 = .ok (.invokevirtual 21, 3) := zd zm_4015 (by decide +kernel)
theorem d_4015_33 {σ : Nat → Nat} {n0 : Nat} {bf : ab_B} : decode (ab_code (zx σ n0 bf).1 4015) 33 = .ok (.istore_n 2, 1) := zd zm_4015 (by decide +kernel)
theorem d_4015_34 {σ : Nat → Nat} {n0 : Nat} {bf : ab_B} : decode (ab_code (zx σ n0 bf).1 4015) 34 = .ok (.aload_n 0, 1) := zd zm_4015 (by decide +kernel)
theorem d_4015_35 {σ : Nat → Nat} {n0 : Nat} {bf : ab_B} : decode (ab_code (zx σ n0 bf).1 4015) 35 = .ok (.bipush 7, 2) := zd zm_4015 (by decide +kernel)
theorem d_4015_37 {σ : Nat → Nat} {n0 : Nat} {bf : ab_B} : decode (ab_code (zx σ n0 bf).1 4015) 37 = .ok (.aload_n 0, 1) := zd zm_4015 (by decide +kernel)
theorem d_4015_38 {σ : Nat → Nat} {n0 : Nat} {bf : ab_B} : decode (ab_code (zx σ n0 bf).1 4015) 38 = .ok (.getfield 5, 3) := zd zm_4015 (by decide +kernel)
theorem d_4015_41 {σ : Nat → Nat} {n0 : Nat} {bf : ab_B} : decode (ab_code (zx σ n0 bf).1 4015) 41 = .ok (.getfield 11, 3) := zd zm_4015 (by decide +kernel)
theorem d_4015_44 {σ : Nat → Nat} {n0 : Nat} {bf : ab_B} : decode (ab_code (zx σ n0 bf).1 4015) 44 = .ok (.aload_n 0, 1) := zd zm_4015 (by decide +kernel)
theorem d_4015_45 {σ : Nat → Nat} {n0 : Nat} {bf : ab_B} : decode (ab_code (zx σ n0 bf).1 4015) 45 = .ok (.getfield 147, 3) := zd zm_4015 (by decide +kernel)
theorem d_4015_48 {σ : Nat → Nat} {n0 : Nat} {bf : ab_B} : decode (ab_code (zx σ n0 bf).1 4015) 48 = .ok (.invokevirtual 572, 3) := zd zm_4015 (by decide +kernel)
theorem d_4015_51 {σ : Nat → Nat} {n0 : Nat} {bf : ab_B} : decode (ab_code (zx σ n0 bf).1 4015) 51 = .ok (.astore_n 3, 1) := zd zm_4015 (by decide +kernel)
theorem d_4015_52 {σ : Nat → Nat} {n0 : Nat} {bf : ab_B} : decode (ab_code (zx σ n0 bf).1 4015) 52 = .ok (.aload_n 3, 1) := zd zm_4015 (by decide +kernel)
theorem d_4015_53 {σ : Nat → Nat} {n0 : Nat} {bf : ab_B} : decode (ab_code (zx σ n0 bf).1 4015) 53 = .ok (.iload_n 2, 1) := zd zm_4015 (by decide +kernel)
theorem d_4015_54 {σ : Nat → Nat} {n0 : Nat} {bf : ab_B} : decode (ab_code (zx σ n0 bf).1 4015) 54 = .ok (.ifCond .eq 8, 3) := zd zm_4015 (by decide +kernel)
theorem d_4015_57 {σ : Nat → Nat} {n0 : Nat} {bf : ab_B} : decode (ab_code (zx σ n0 bf).1 4015) 57 = .ok (.bipush 45, 2) := zd zm_4015 (by decide +kernel)
theorem d_4015_59 {σ : Nat → Nat} {n0 : Nat} {bf : ab_B} : decode (ab_code (zx σ n0 bf).1 4015) 59 = .ok (.goto 5, 3) := zd zm_4015 (by decide +kernel)
theorem d_4015_62 {σ : Nat → Nat} {n0 : Nat} {bf : ab_B} : decode (ab_code (zx σ n0 bf).1 4015) 62 = .ok (.bipush 43, 2) := zd zm_4015 (by decide +kernel)
theorem d_4015_64 {σ : Nat → Nat} {n0 : Nat} {bf : ab_B} : decode (ab_code (zx σ n0 bf).1 4015) 64 = .ok (.putfield 542, 3) := zd zm_4015 (by decide +kernel)
theorem d_4015_67 {σ : Nat → Nat} {n0 : Nat} {bf : ab_B} : decode (ab_code (zx σ n0 bf).1 4015) 67 = .ok (.aload_n 0, 1) := zd zm_4015 (by decide +kernel)
theorem d_4015_68 {σ : Nat → Nat} {n0 : Nat} {bf : ab_B} : decode (ab_code (zx σ n0 bf).1 4015) 68 = .ok (.getfield 5, 3) := zd zm_4015 (by decide +kernel)
theorem d_4015_71 {σ : Nat → Nat} {n0 : Nat} {bf : ab_B} : decode (ab_code (zx σ n0 bf).1 4015) 71 = .ok (.invokevirtual 29, 3) := zd zm_4015 (by decide +kernel)
theorem d_4015_74 {σ : Nat → Nat} {n0 : Nat} {bf : ab_B} : decode (ab_code (zx σ n0 bf).1 4015) 74 = .ok (.aload_n 3, 1) := zd zm_4015 (by decide +kernel)
theorem d_4015_75 {σ : Nat → Nat} {n0 : Nat} {bf : ab_B} : decode (ab_code (zx σ n0 bf).1 4015) 75 = .ok (.aload_n 0, 1) := zd zm_4015 (by decide +kernel)
theorem d_4015_76 {σ : Nat → Nat} {n0 : Nat} {bf : ab_B} : decode (ab_code (zx σ n0 bf).1 4015) 76 = .ok (.invokevirtual 593, 3) := zd zm_4015 (by decide +kernel)
theorem d_4015_79 {σ : Nat → Nat} {n0 : Nat} {bf : ab_B} : decode (ab_code (zx σ n0 bf).1 4015) 79 = .ok (.putfield 539, 3) := zd zm_4015 (by decide +kernel)
theorem d_4015_82 {σ : Nat → Nat} {n0 : Nat} {bf : ab_B} : decode (ab_code (zx σ n0 bf).1 4015) 82 = .ok (.aload_n 3, 1) := zd zm_4015 (by decide +kernel)
theorem d_4015_83 {σ : Nat → Nat} {n0 : Nat} {bf : ab_B} : decode (ab_code (zx σ n0 bf).1 4015) 83 = .ok (.getfield 539, 3) := zd zm_4015 (by decide +kernel)
theorem d_4015_86 {σ : Nat → Nat} {n0 : Nat} {bf : ab_B} : decode (ab_code (zx σ n0 bf).1 4015) 86 = .ok (.getfield 297, 3) := zd zm_4015 (by decide +kernel)
theorem d_4015_89 {σ : Nat → Nat} {n0 : Nat} {bf : ab_B} : decode (ab_code (zx σ n0 bf).1 4015) 89 = .ok (.invokevirtual 450, 3) := zd zm_4015 (by decide +kernel)
theorem d_4015_92 {σ : Nat → Nat} {n0 : Nat} {bf : ab_B} : decode (ab_code (zx σ n0 bf).1 4015) 92 = .ok (.aload_n 0, 1) := zd zm_4015 (by decide +kernel)
theorem d_4015_93 {σ : Nat → Nat} {n0 : Nat} {bf : ab_B} : decode (ab_code (zx σ n0 bf).1 4015) 93 = .ok (.getfield 147, 3) := zd zm_4015 (by decide +kernel)
theorem d_4015_96 {σ : Nat → Nat} {n0 : Nat} {bf : ab_B} : decode (ab_code (zx σ n0 bf).1 4015) 96 = .ok (.if_acmp .eq 9, 3) := zd zm_4015 (by decide +kernel)
theorem d_4015_99 {σ : Nat → Nat} {n0 : Nat} {bf : ab_B} : decode (ab_code (zx σ n0 bf).1 4015) 99 = .ok (.aload_n 0, 1) := zd zm_4015 (by decide +kernel)
theorem d_4015_100 {σ : Nat → Nat} {n0 : Nat} {bf : ab_B} : decode (ab_code (zx σ n0 bf).1 4015) 100 = .ok (.iconst 5, 1) := zd zm_4015 (by decide +kernel)
theorem d_4015_101 {σ : Nat → Nat} {n0 : Nat} {bf : ab_B} : decode (ab_code (zx σ n0 bf).1 4015) 101 = .ok (.invokevirtual 25, 3) := zd zm_4015 (by decide +kernel)
theorem d_4015_104 {σ : Nat → Nat} {n0 : Nat} {bf : ab_B} : decode (ab_code (zx σ n0 bf).1 4015) 104 = .ok (.athrow, 1) := zd zm_4015 (by decide +kernel)
theorem d_4015_105 {σ : Nat → Nat} {n0 : Nat} {bf : ab_B} : decode (ab_code (zx σ n0 bf).1 4015) 105 = .ok (.iload_n 2, 1) := zd zm_4015 (by decide +kernel)
theorem d_4015_106 {σ : Nat → Nat} {n0 : Nat} {bf : ab_B} : decode (ab_code (zx σ n0 bf).1 4015) 106 = .ok (.ifCond .eq 7, 3) := zd zm_4015 (by decide +kernel)
theorem d_4015_109 {σ : Nat → Nat} {n0 : Nat} {bf : ab_B} : decode (ab_code (zx σ n0 bf).1 4015) 109 = .ok (.aload_n 3, 1) := zd zm_4015 (by decide +kernel)
theorem d_4015_110 {σ : Nat → Nat} {n0 : Nat} {bf : ab_B} : decode (ab_code (zx σ n0 bf).1 4015) 110 = .ok (.goto 11, 3) := zd zm_4015 (by decide +kernel)
theorem d_4015_113 {σ : Nat → Nat} {n0 : Nat} {bf : ab_B} : decode (ab_code (zx σ n0 bf).1 4015) 113 = .ok (.aload_n 0, 1) := zd zm_4015 (by decide +kernel)
theorem d_4015_114 {σ : Nat → Nat} {n0 : Nat} {bf : ab_B} : decode (ab_code (zx σ n0 bf).1 4015) 114 = .ok (.aload_n 3, 1) := zd zm_4015 (by decide +kernel)
theorem d_4015_115 {σ : Nat → Nat} {n0 : Nat} {bf : ab_B} : decode (ab_code (zx σ n0 bf).1 4015) 115 = .ok (.getfield 539, 3) := zd zm_4015 (by decide +kernel)
theorem d_4015_118 {σ : Nat → Nat} {n0 : Nat} {bf : ab_B} : decode (ab_code (zx σ n0 bf).1 4015) 118 = .ok (.invokevirtual 596, 3) := zd zm_4015 (by decide +kernel)
theorem d_4015_121 {σ : Nat → Nat} {n0 : Nat} {bf : ab_B} : decode (ab_code (zx σ n0 bf).1 4015) 121 = .ok (.astore_n 1, 1) := zd zm_4015 (by decide +kernel)
theorem d_4015_122 {σ : Nat → Nat} {n0 : Nat} {bf : ab_B} : decode (ab_code (zx σ n0 bf).1 4015) 122 = .ok (.goto 8, 3) := zd zm_4015 (by decide +kernel)
theorem d_4015_125 {σ : Nat → Nat} {n0 : Nat} {bf : ab_B} : decode (ab_code (zx σ n0 bf).1 4015) 125 = .ok (.aload_n 0, 1) := zd zm_4015 (by decide +kernel)
theorem d_4015_126 {σ : Nat → Nat} {n0 : Nat} {bf : ab_B} : decode (ab_code (zx σ n0 bf).1 4015) 126 = .ok (.invokevirtual 593, 3) := zd zm_4015 (by decide +kernel)
theorem d_4015_129 {σ : Nat → Nat} {n0 : Nat} {bf : ab_B} : decode (ab_code (zx σ n0 bf).1 4015) 129 = .ok (.astore_n 1, 1) := zd zm_4015 (by decide +kernel)
theorem d_4015_130 {σ : Nat → Nat} {n0 : Nat} {bf : ab_B} : decode (ab_code (zx σ n0 bf).1 4015) 130 = .ok (.aload_n 0, 1) := zd zm_4015 (by decide +kernel)
theorem d_4015_131 {σ : Nat → Nat} {n0 : Nat} {bf : ab_B} : decode (ab_code (zx σ n0 bf).1 4015) 131 = .ok (.getfield 5, 3) := zd zm_4015 (by decide +kernel)
theorem d_4015_134 {σ : Nat → Nat} {n0 : Nat} {bf : ab_B} : decode (ab_code (zx σ n0 bf).1 4015) 134 = .ok (.bipush 43, 2) := zd zm_4015 (by decide +kernel)
theorem d_4015_136 {σ : Nat → Nat} {n0 : Nat} {bf : ab_B} : decode (ab_code (zx σ n0 bf).1 4015) 136 = .ok (.invokevirtual 21, 3) := zd zm_4015 (by decide +kernel)
theorem d_4015_139 {σ : Nat → Nat} {n0 : Nat} {bf : ab_B} : decode (ab_code (zx σ n0 bf).1 4015) 139 = .ok (.ifCond .ne 27, 3) := zd zm_4015 (by decide +kernel)
theorem d_4015_142 {σ : Nat → Nat} {n0 : Nat} {bf : ab_B} : decode (ab_code (zx σ n0 bf).1 4015) 142 = .ok (.aload_n 0, 1) := zd zm_4015 (by decide +kernel)
theorem d_4015_143 {σ : Nat → Nat} {n0 : Nat} {bf : ab_B} : decode (ab_code (zx σ n0 bf).1 4015) 143 = .ok (.getfield 5, 3) := zd zm_4015 (by decide +kernel)
theorem d_4015_146 {σ : Nat → Nat} {n0 : Nat} {bf : ab_B} : decode (ab_code (zx σ n0 bf).1 4015) 146 = .ok (.bipush 45, 2) := zd zm_4015 (by decide +kernel)
theorem d_4015_148 {σ : Nat → Nat} {n0 : Nat} {bf : ab_B} : decode (ab_code (zx σ n0 bf).1 4015) 148 = .ok (.invokevirtual 21, 3) := zd zm_4015 (by decide +kernel)
theorem d_4015_151 {σ : Nat → Nat} {n0 : Nat} {bf : ab_B} : decode (ab_code (zx σ n0 bf).1 4015) 151 = .ok (.ifCond .ne 15, 3) := zd zm_4015 (by decide +kernel)
theorem d_4015_154 {σ : Nat → Nat} {n0 : Nat} {bf : ab_B} : decode (ab_code (zx σ n0 bf).1 4015) 154 = .ok (.aload_n 0, 1) := zd zm_4015 (by decide +kernel)
theorem d_4015_155 {σ : Nat → Nat} {n0 : Nat} {bf : ab_B} : decode (ab_code (zx σ n0 bf).1 4015) 155 = .ok (.getfield 5, 3) := zd zm_4015 (by decide +kernel)
theorem d_4015_158 {σ : Nat → Nat} {n0 : Nat} {bf : ab_B} : decode (ab_code (zx σ n0 bf).1 4015) 158 = .ok (.bipush 31, 2) := zd zm_4015 (by decide +kernel)
theorem d_4015_160 {σ : Nat → Nat} {n0 : Nat} {bf : ab_B} : decode (ab_code (zx σ n0 bf).1 4015) 160 = .ok (.invokevirtual 33, 3) := zd zm_4015 (by decide +kernel)
theorem d_4015_163 {σ : Nat → Nat} {n0 : Nat} {bf : ab_B} : decode (ab_code (zx σ n0 bf).1 4015) 163 = .ok (.ifCond .eq 111, 3) := zd zm_4015 (by decide +kernel)
theorem d_4015_166 {σ : Nat → Nat} {n0 : Nat} {bf : ab_B} : decode (ab_code (zx σ n0 bf).1 4015) 166 = .ok (.aload_n 0, 1) := zd zm_4015 (by decide +kernel)
theorem d_4015_167 {σ : Nat → Nat} {n0 : Nat} {bf : ab_B} : decode (ab_code (zx σ n0 bf).1 4015) 167 = .ok (.bipush 8, 2) := zd zm_4015 (by decide +kernel)
theorem d_4015_169 {σ : Nat → Nat} {n0 : Nat} {bf : ab_B} : decode (ab_code (zx σ n0 bf).1 4015) 169 = .ok (.aload_n 0, 1) := zd zm_4015 (by decide +kernel)
theorem d_4015_170 {σ : Nat → Nat} {n0 : Nat} {bf : ab_B} : decode (ab_code (zx σ n0 bf).1 4015) 170 = .ok (.getfield 5, 3) := zd zm_4015 (by decide +kernel)
theorem d_4015_173 {σ : Nat → Nat} {n0 : Nat} {bf : ab_B} : decode (ab_code (zx σ n0 bf).1 4015) 173 = .ok (.getfield 11, 3) := zd zm_4015 (by decide +kernel)
theorem d_4015_176 {σ : Nat → Nat} {n0 : Nat} {bf : ab_B} : decode (ab_code (zx σ n0 bf).1 4015) 176 = .ok (.aconst_null, 1) := zd zm_4015 (by decide +kernel)
theorem d_4015_177 {σ : Nat → Nat} {n0 : Nat} {bf : ab_B} : decode (ab_code (zx σ n0 bf).1 4015) 177 = .ok (.invokevirtual 572, 3) := zd zm_4015 (by decide +kernel)
theorem d_4015_180 {σ : Nat → Nat} {n0 : Nat} {bf : ab_B} : decode (ab_code (zx σ n0 bf).1 4015) 180 = .ok (.astore_n 2, 1) := zd zm_4015 (by decide +kernel)
theorem d_4015_181 {σ : Nat → Nat} {n0 : Nat} {bf : ab_B} : decode (ab_code (zx σ n0 bf).1 4015) 181 = .ok (.aload_n 2, 1) := zd zm_4015 (by decide +kernel)
theorem d_4015_182 {σ : Nat → Nat} {n0 : Nat} {bf : ab_B} : decode (ab_code (zx σ n0 bf).1 4015) 182 = .ok (.aload_n 0, 1) := zd zm_4015 (by decide +kernel)
theorem d_4015_183 {σ : Nat → Nat} {n0 : Nat} {bf : ab_B} : decode (ab_code (zx σ n0 bf).1 4015) 183 = .ok (.getfield 5, 3) := zd zm_4015 (by decide +kernel)
theorem d_4015_186 {σ : Nat → Nat} {n0 : Nat} {bf : ab_B} : decode (ab_code (zx σ n0 bf).1 4015) 186 = .ok (.bipush 31, 2) := zd zm_4015 (by decide +kernel)
theorem d_4015_188 {σ : Nat → Nat} {n0 : Nat} {bf : ab_B} : decode (ab_code (zx σ n0 bf).1 4015) 188 = .ok (.invokevirtual 33, 3) := zd zm_4015 (by decide +kernel)
theorem d_4015_191 {σ : Nat → Nat} {n0 : Nat} {bf : ab_B} : decode (ab_code (zx σ n0 bf).1 4015) 191 = .ok (.ifCond .eq 9, 3) := zd zm_4015 (by decide +kernel)
theorem d_4015_194 {σ : Nat → Nat} {n0 : Nat} {bf : ab_B} : decode (ab_code (zx σ n0 bf).1 4015) 194 = .ok (.sipush 1031, 3) := zd zm_4015 (by decide +kernel)
theorem d_4015_197 {σ : Nat → Nat} {n0 : Nat} {bf : ab_B} : decode (ab_code (zx σ n0 bf).1 4015) 197 = .ok (.goto 10, 3) := zd zm_4015 (by decide +kernel)
theorem d_4015_200 {σ : Nat → Nat} {n0 : Nat} {bf : ab_B} : decode (ab_code (zx σ n0 bf).1 4015) 200 = .ok (.aload_n 0, 1) := zd zm_4015 (by decide +kernel)
theorem d_4015_201 {σ : Nat → Nat} {n0 : Nat} {bf : ab_B} : decode (ab_code (zx σ n0 bf).1 4015) 201 = .ok (.getfield 5, 3) := zd zm_4015 (by decide +kernel)
theorem d_4015_204 {σ : Nat → Nat} {n0 : Nat} {bf : ab_B} : decode (ab_code (zx σ n0 bf).1 4015) 204 = .ok (.getfield 40, 3) := zd zm_4015 (by decide +kernel)
theorem d_4015_207 {σ : Nat → Nat} {n0 : Nat} {bf : ab_B} : decode (ab_code (zx σ n0 bf).1 4015) 207 = .ok (.putfield 542, 3) := zd zm_4015 (by decide +kernel)
theorem d_4015_210 {σ : Nat → Nat} {n0 : Nat} {bf : ab_B} : decode (ab_code (zx σ n0 bf).1 4015) 210 = .ok (.aload_n 0, 1) := zd zm_4015 (by decide +kernel)
theorem d_4015_211 {σ : Nat → Nat} {n0 : Nat} {bf : ab_B} : decode (ab_code (zx σ n0 bf).1 4015) 211 = .ok (.getfield 5, 3) := zd zm_4015 (by decide +kernel)
theorem d_4015_214 {σ : Nat → Nat} {n0 : Nat} {bf : ab_B} : decode (ab_code (zx σ n0 bf).1 4015) 214 = .ok (.invokevirtual 29, 3) := zd zm_4015 (by decide +kernel)
theorem d_4015_217 {σ : Nat → Nat} {n0 : Nat} {bf : ab_B} : decode (ab_code (zx σ n0 bf).1 4015) 217 = .ok (.aload_n 2, 1) := zd zm_4015 (by decide +kernel)
theorem d_4015_218 {σ : Nat → Nat} {n0 : Nat} {bf : ab_B} : decode (ab_code (zx σ n0 bf).1 4015) 218 = .ok (.aload_n 1, 1) := zd zm_4015 (by decide +kernel)
theorem d_4015_219 {σ : Nat → Nat} {n0 : Nat} {bf : ab_B} : decode (ab_code (zx σ n0 bf).1 4015) 219 = .ok (.putfield 539, 3) := zd zm_4015 (by decide +kernel)
theorem d_4015_222 {σ : Nat → Nat} {n0 : Nat} {bf : ab_B} : decode (ab_code (zx σ n0 bf).1 4015) 222 = .ok (.aload_n 2, 1) := zd zm_4015 (by decide +kernel)
theorem d_4015_223 {σ : Nat → Nat} {n0 : Nat} {bf : ab_B} : decode (ab_code (zx σ n0 bf).1 4015) 223 = .ok (.aload_n 0, 1) := zd zm_4015 (by decide +kernel)
theorem d_4015_224 {σ : Nat → Nat} {n0 : Nat} {bf : ab_B} : decode (ab_code (zx σ n0 bf).1 4015) 224 = .ok (.invokevirtual 593, 3) := zd zm_4015 (by decide +kernel)
theorem d_4015_227 {σ : Nat → Nat} {n0 : Nat} {bf : ab_B} : decode (ab_code (zx σ n0 bf).1 4015) 227 = .ok (.putfield 536, 3) := zd zm_4015 (by decide +kernel)
theorem d_4015_230 {σ : Nat → Nat} {n0 : Nat} {bf : ab_B} : decode (ab_code (zx σ n0 bf).1 4015) 230 = .ok (.aload_n 2, 1) := zd zm_4015 (by decide +kernel)
theorem d_4015_231 {σ : Nat → Nat} {n0 : Nat} {bf : ab_B} : decode (ab_code (zx σ n0 bf).1 4015) 231 = .ok (.aload_n 2, 1) := zd zm_4015 (by decide +kernel)
theorem d_4015_232 {σ : Nat → Nat} {n0 : Nat} {bf : ab_B} : decode (ab_code (zx σ n0 bf).1 4015) 232 = .ok (.getfield 542, 3) := zd zm_4015 (by decide +kernel)
theorem d_4015_235 {σ : Nat → Nat} {n0 : Nat} {bf : ab_B} : decode (ab_code (zx σ n0 bf).1 4015) 235 = .ok (.sipush 1031, 3) := zd zm_4015 (by decide +kernel)
theorem d_4015_238 {σ : Nat → Nat} {n0 : Nat} {bf : ab_B} : decode (ab_code (zx σ n0 bf).1 4015) 238 = .ok (.if_icmp .ne 15, 3) := zd zm_4015 (by decide +kernel)
theorem d_4015_241 {σ : Nat → Nat} {n0 : Nat} {bf : ab_B} : decode (ab_code (zx σ n0 bf).1 4015) 241 = .ok (.aload_n 0, 1) := zd zm_4015 (by decide +kernel)
theorem d_4015_242 {σ : Nat → Nat} {n0 : Nat} {bf : ab_B} : decode (ab_code (zx σ n0 bf).1 4015) 242 = .ok (.aload_n 1, 1) := zd zm_4015 (by decide +kernel)
theorem d_4015_243 {σ : Nat → Nat} {n0 : Nat} {bf : ab_B} : decode (ab_code (zx σ n0 bf).1 4015) 243 = .ok (.aload_n 2, 1) := zd zm_4015 (by decide +kernel)
theorem d_4015_244 {σ : Nat → Nat} {n0 : Nat} {bf : ab_B} : decode (ab_code (zx σ n0 bf).1 4015) 244 = .ok (.getfield 536, 3) := zd zm_4015 (by decide +kernel)
theorem d_4015_247 {σ : Nat → Nat} {n0 : Nat} {bf : ab_B} : decode (ab_code (zx σ n0 bf).1 4015) 247 = .ok (.invokevirtual 600, 3) := zd zm_4015 (by decide +kernel)
theorem d_4015_250 {σ : Nat → Nat} {n0 : Nat} {bf : ab_B} : decode (ab_code (zx σ n0 bf).1 4015) 250 = .ok (.goto 16, 3) := zd zm_4015 (by decide +kernel)
theorem d_4015_253 {σ : Nat → Nat} {n0 : Nat} {bf : ab_B} : decode (ab_code (zx σ n0 bf).1 4015) 253 = .ok (.aload_n 0, 1) := zd zm_4015 (by decide +kernel)
theorem d_4015_254 {σ : Nat → Nat} {n0 : Nat} {bf : ab_B} : decode (ab_code (zx σ n0 bf).1 4015) 254 = .ok (.aload_n 2, 1) := zd zm_4015 (by decide +kernel)
theorem d_4015_255 {σ : Nat → Nat} {n0 : Nat} {bf : ab_B} : decode (ab_code (zx σ n0 bf).1 4015) 255 = .ok (.getfield 542, 3) := zd zm_4015 (by decide +kernel)
theorem d_4015_258 {σ : Nat → Nat} {n0 : Nat} {bf : ab_B} : decode (ab_code (zx σ n0 bf).1 4015) 258 = .ok (.aload_n 1, 1) := zd zm_4015 (by decide +kernel)
theorem d_4015_259 {σ : Nat → Nat} {n0 : Nat} {bf : ab_B} : decode (ab_code (zx σ n0 bf).1 4015) 259 = .ok (.aload_n 2, 1) := zd zm_4015 (by decide +kernel)
theorem d_4015_260 {σ : Nat → Nat} {n0 : Nat} {bf : ab_B} : decode (ab_code (zx σ n0 bf).1 4015) 260 = .ok (.getfield 536, 3) := zd zm_4015 (by decide +kernel)
theorem d_4015_263 {σ : Nat → Nat} {n0 : Nat} {bf : ab_B} : decode (ab_code (zx σ n0 bf).1 4015) 263 = .ok (.invokevirtual 604, 3) := zd zm_4015 (by decide +kernel)
theorem d_4015_266 {σ : Nat → Nat} {n0 : Nat} {bf : ab_B} : decode (ab_code (zx σ n0 bf).1 4015) 266 = .ok (.putfield 297, 3) := zd zm_4015 (by decide +kernel)
theorem d_4015_269 {σ : Nat → Nat} {n0 : Nat} {bf : ab_B} : decode (ab_code (zx σ n0 bf).1 4015) 269 = .ok (.aload_n 2, 1) := zd zm_4015 (by decide +kernel)
theorem d_4015_270 {σ : Nat → Nat} {n0 : Nat} {bf : ab_B} : decode (ab_code (zx σ n0 bf).1 4015) 270 = .ok (.astore_n 1, 1) := zd zm_4015 (by decide +kernel)
theorem d_4015_271 {σ : Nat → Nat} {n0 : Nat} {bf : ab_B} : decode (ab_code (zx σ n0 bf).1 4015) 271 = .ok (.goto (-141), 3) := zd zm_4015 (by decide +kernel)
theorem d_4015_274 {σ : Nat → Nat} {n0 : Nat} {bf : ab_B} : decode (ab_code (zx σ n0 bf).1 4015) 274 = .ok (.aload_n 1, 1) := zd zm_4015 (by decide +kernel)
theorem d_4015_275 {σ : Nat → Nat} {n0 : Nat} {bf : ab_B} : decode (ab_code (zx σ n0 bf).1 4015) 275 = .ok (.areturn, 1) := zd zm_4015 (by decide +kernel)
def w_X5_sum_113 (X : zs_X) (d : Nat) (p0 : Nat) (p3 : Option Nat) (S : zs_T) (Q : zs_Q) : Prop :=
  (∃ b1, p3 = some b1 ∧ zs_K S b1 = some (.inl 11) ∧ zs_K S p0 = some (.inl 4) ∧ zs_C X d 4053 [.ref p0, va_rf (zs_R S 11005 b1)] S (zs_kR (fun v6 S5 => (zs_U X d 4015 130 [(0, .ref p0), (1, va_rf v6)] [] S5 Q)) Q))
theorem u_X5_sum_113 {σ : Nat → Nat} {n0 : Nat} {bf : ab_B} {d : Nat} {p0 : Nat} {p3 : Option Nat} {S : zs_T} {Q : zs_Q} (hB : zt_B bf) (h : w_X5_sum_113 (zx σ n0 bf) d p0 p3 S Q) : zs_U (zx σ n0 bf) d 4015 113 [(0, .ref p0), (3, va_rf p3)] [] S Q := by
  unfold w_X5_sum_113 at h
  refine zu_aload_n d_4015_113 rfl (zs_ra _) ?_
  refine zu_aload_n d_4015_114 rfl (zs_rr _) ?_
  obtain ⟨b1, e2, h⟩ := h
  refine zs_stk0 (zs_rfe e2) ?_
  obtain ⟨k3, h⟩ := h
  refine zg_4_539 rfl d_4015_115 k3 ?_
  obtain ⟨k4, h⟩ := h
  refine zc_4_596 (x0 := (zs_R S 11005 b1)) hB rfl k4 d_4015_118 (Nat.le_of_ble_eq_true rfl) h (fun v6 S5 h => ?_)
  refine zu_astore_n d_4015_121 (zs_rr _) (zs_lt zq_4015 rfl) ?_
  refine zu_goto (t := 130) d_4015_122 rfl ?_
  exact h.weak ⟨rfl, rfl, trivial⟩
def w_X5_sum_109 (X : zs_X) (d : Nat) (p0 : Nat) (p3 : Option Nat) (S : zs_T) (Q : zs_Q) : Prop :=
  (zs_U X d 4015 130 [(0, .ref p0), (1, va_rf p3)] [] S Q)
theorem u_X5_sum_109 {σ : Nat → Nat} {n0 : Nat} {bf : ab_B} {d : Nat} {p0 : Nat} {p3 : Option Nat} {S : zs_T} {Q : zs_Q} (hB : zt_B bf) (h : w_X5_sum_109 (zx σ n0 bf) d p0 p3 S Q) : zs_U (zx σ n0 bf) d 4015 109 [(0, .ref p0), (3, va_rf p3)] [] S Q := by
  unfold w_X5_sum_109 at h
  refine zu_aload_n d_4015_109 rfl (zs_rr _) ?_
  refine zu_goto (t := 121) d_4015_110 rfl ?_
  refine zu_astore_n d_4015_121 (zs_rr _) (zs_lt zq_4015 rfl) ?_
  refine zu_goto (t := 130) d_4015_122 rfl ?_
  exact h.weak ⟨rfl, rfl, trivial⟩
def w_X5_sum_64 (X : zs_X) (d : Nat) (p0 : Nat) (p2 : Int32) (p3 : Option Nat) (q0 : Option Nat) (q1 : Int32) (S : zs_T) (Q : zs_Q) : Prop :=
  (∃ b1, q0 = some b1 ∧ zs_K S b1 = some (.inl 11) ∧ ab_n0 X.1 ≤ b1 ∧ ∀ S5, S5 = zs_sI S 11003 b1 q1 → zs_K S p0 = some (.inl 4) ∧ ∃ b9, (zs_R S5 4000 p0) = some b9 ∧ zs_K S b9 = some (.inl 5) ∧ zs_C X d 5004 [.ref b9] S5 (zs_kV (fun S12 => (zs_K S12 p0 = some (.inl 4) ∧ zs_C X d 4017 [.ref p0] S12 (zs_kR (fun v16 S15 => (∃ b17, p3 = some b17 ∧ zs_K S15 b17 = some (.inl 11) ∧ ab_n0 X.1 ≤ b17 ∧ ∀ S21, S21 = zs_sR S15 11005 b17 v16 → ∃ b24, (zs_R S21 11005 b17) = some b24 ∧ zs_K S15 b24 = some (.inl 11) ∧ ∃ b27, (zs_R S21 11002 b24) = some b27 ∧ zs_K S15 b27 = some (.inl 6) ∧ zs_C X d 6001 [.ref b27] S21 (zs_kR (fun v31 S30 => (zs_K S30 p0 = some (.inl 4) ∧ ((v31 = (zs_R S30 4002 p0) → (((p2 = 0 → w_X5_sum_113 X d p0 p3 S30 Q) ∧ (¬ (p2 = 0) → w_X5_sum_109 X d p0 p3 S30 Q)))) ∧ (¬ (v31 = (zs_R S30 4002 p0)) → (zs_C X d 4006 [.ref p0, .int (5 : Int32)] S30 (zs_kR (fun v36 S35 => (∃ b37, v36 = some b37 ∧ Q (.threw b37) S35)) Q)))))) Q))) Q))) Q))
theorem u_X5_sum_64 {σ : Nat → Nat} {n0 : Nat} {bf : ab_B} {d : Nat} {p0 : Nat} {p2 : Int32} {p3 : Option Nat} {q0 : Option Nat} {q1 : Int32} {S : zs_T} {Q : zs_Q} (hB : zt_B bf) (h : w_X5_sum_64 (zx σ n0 bf) d p0 p2 p3 q0 q1 S Q) : zs_U (zx σ n0 bf) d 4015 64 [(0, .ref p0), (2, .int p2), (3, va_rf p3)] [.int q1, va_rf q0] S Q := by
  unfold w_X5_sum_64 at h
  obtain ⟨b1, e2, h⟩ := h
  refine zs_stk1 (zs_rfe e2) ?_
  obtain ⟨k3, h⟩ := h
  obtain ⟨k4, h⟩ := h
  refine zp_4_542 (v := q1) rfl d_4015_64 k3 k4 ?_
  generalize e6 : zs_sI S 11003 b1 q1 = S5
  have h := h S5 e6.symm
  have K7 : ∀ b, zs_K S5 b = zs_K S b := zs_Kt e6 (zs_KsI _ _ _ _) (fun _ => rfl)
  refine zu_aload_n d_4015_67 rfl (zs_ra _) ?_
  obtain ⟨k8, h⟩ := h
  refine zg_4_5 rfl d_4015_68 ((K7 _).trans k8) ?_
  obtain ⟨b9, e10, h⟩ := h
  refine zs_stk0 (zs_rfe e10) ?_
  obtain ⟨k11, h⟩ := h
  refine zc_4_29  hB rfl ((K7 _).trans k11) d_4015_71 (Nat.le_of_ble_eq_true rfl) h (fun S12 h => ?_)
  refine zu_aload_n d_4015_74 rfl (zs_rr _) ?_
  refine zu_aload_n d_4015_75 rfl (zs_ra _) ?_
  obtain ⟨k14, h⟩ := h
  refine zc_4_593  hB rfl k14 d_4015_76 (by simp only [List.map_cons, List.map_nil, List.sum_cons, List.sum_nil, zs_cat, zs_cI, zs_cJ, zs_cA]; exact Nat.le_of_ble_eq_true rfl) h (fun v16 S15 h => ?_)
  obtain ⟨b17, e18, h⟩ := h
  refine zs_stk1 (zs_rfe e18) ?_
  obtain ⟨k19, h⟩ := h
  obtain ⟨k20, h⟩ := h
  refine zp_4_539 (v := v16) rfl d_4015_79 k19 k20 ?_
  generalize e22 : zs_sR S15 11005 b17 v16 = S21
  have h := h S21 e22.symm
  have K23 : ∀ b, zs_K S21 b = zs_K S15 b := zs_Kt e22 (zs_KsR _ _ _ _) (fun _ => rfl)
  refine zu_aload_n d_4015_82 rfl (zs_rr _) ?_
  refine zs_stk0 (zs_rfe e18) ?_
  refine zg_4_539 rfl d_4015_83 ((K23 _).trans k19) ?_
  obtain ⟨b24, e25, h⟩ := h
  refine zs_stk0 (zs_rfe e25) ?_
  obtain ⟨k26, h⟩ := h
  refine zg_4_297 rfl d_4015_86 ((K23 _).trans k26) ?_
  obtain ⟨b27, e28, h⟩ := h
  refine zs_stk0 (zs_rfe e28) ?_
  obtain ⟨k29, h⟩ := h
  refine zc_4_450  hB rfl ((K23 _).trans k29) d_4015_89 (Nat.le_of_ble_eq_true rfl) h (fun v31 S30 h => ?_)
  refine zu_aload_n d_4015_92 rfl (zs_ra _) ?_
  obtain ⟨k32, h⟩ := h
  refine zg_4_147 rfl d_4015_93 k32 ?_
  refine zu_acmpeq (u := v31) (w := (zs_R S30 4002 p0)) (t := 105) d_4015_96 rfl rfl rfl (fun c33 => ?_) (fun c33 => ?_)
  · have h := h.1 c33
    refine zu_iload_n d_4015_105 rfl ?_
    refine zu_ifeq (t := 113) d_4015_106 rfl (fun c34 => ?_) (fun c34 => ?_)
    · have h := h.1 c34
      exact (u_X5_sum_113 hB h).weak ⟨rfl, rfl, trivial⟩
    · have h := h.2 c34
      exact (u_X5_sum_109 hB h).weak ⟨rfl, rfl, trivial⟩
  · have h := h.2 c33
    refine zu_aload_n d_4015_99 rfl (zs_ra _) ?_
    refine zu_iconst d_4015_100 zi_5 ?_
    refine zc_4_25 (x0 := (5 : Int32)) hB rfl k32 d_4015_101 (Nat.le_of_ble_eq_true rfl) h (fun v36 S35 h => ?_)
    obtain ⟨b37, e38, h⟩ := h
    refine zs_stk0 (zs_rfe e38) ?_
    exact zu_throw d_4015_104 h
def w_X5_sum_24 (X : zs_X) (d : Nat) (p0 : Nat) (S : zs_T) (Q : zs_Q) : Prop :=
  (zs_K S p0 = some (.inl 4) ∧ ∃ b2, (zs_R S 4000 p0) = some b2 ∧ zs_K S b2 = some (.inl 5) ∧ zs_C X d 5017 [.ref b2, .int (45 : Int32)] S (zs_kI (fun v6 S5 => (zs_K S5 p0 = some (.inl 4) ∧ ∃ b8, (zs_R S5 4000 p0) = some b8 ∧ zs_K S5 b8 = some (.inl 5) ∧ zs_C X d 4016 [.ref p0, .int (7 : Int32), .int (zs_I S5 5005 b8), va_rf (zs_R S5 4002 p0)] S5 (zs_kR (fun v12 S11 => (((v6 = 0 → (w_X5_sum_64 X d p0 v6 v12 v12 (43 : Int32) S11 Q)) ∧ (¬ (v6 = 0) → (w_X5_sum_64 X d p0 v6 v12 v12 (45 : Int32) S11 Q))))) Q))) Q))
theorem u_X5_sum_24 {σ : Nat → Nat} {n0 : Nat} {bf : ab_B} {d : Nat} {p0 : Nat} {S : zs_T} {Q : zs_Q} (hB : zt_B bf) (h : w_X5_sum_24 (zx σ n0 bf) d p0 S Q) : zs_U (zx σ n0 bf) d 4015 24 [(0, .ref p0)] [] S Q := by
  unfold w_X5_sum_24 at h
  refine zu_aload_n d_4015_24 rfl (zs_ra _) ?_
  obtain ⟨k1, h⟩ := h
  refine zg_4_5 rfl d_4015_25 k1 ?_
  refine zu_bipush d_4015_28 zj_45 ?_
  obtain ⟨b2, e3, h⟩ := h
  refine zs_stk1 (zs_rfe e3) ?_
  obtain ⟨k4, h⟩ := h
  refine zc_4_21 (x0 := (45 : Int32)) hB rfl k4 d_4015_30 (Nat.le_of_ble_eq_true rfl) h (fun v6 S5 h => ?_)
  refine zu_istore_n d_4015_33 (zs_lt zq_4015 rfl) ?_
  refine zu_aload_n d_4015_34 rfl (zs_ra _) ?_
  refine zu_bipush d_4015_35 zj_7 ?_
  refine zu_aload_n d_4015_37 rfl (zs_ra _) ?_
  obtain ⟨k7, h⟩ := h
  refine zg_4_5 rfl d_4015_38 k7 ?_
  obtain ⟨b8, e9, h⟩ := h
  refine zs_stk0 (zs_rfe e9) ?_
  obtain ⟨k10, h⟩ := h
  refine zg_4_11 rfl d_4015_41 k10 ?_
  refine zu_aload_n d_4015_44 rfl (zs_ra _) ?_
  refine zg_4_147 rfl d_4015_45 k7 ?_
  refine zc_4_572 (x0 := (7 : Int32)) (x1 := (zs_I S5 5005 b8)) (x2 := (zs_R S5 4002 p0)) hB rfl k7 d_4015_48 (Nat.le_of_ble_eq_true rfl) h (fun v12 S11 h => ?_)
  refine zu_astore_n d_4015_51 (zs_rr _) (zs_lt zq_4015 rfl) ?_
  refine zu_aload_n d_4015_52 rfl (zs_rr _) ?_
  refine zu_iload_n d_4015_53 rfl ?_
  refine zu_ifeq (t := 62) d_4015_54 rfl (fun c13 => ?_) (fun c13 => ?_)
  · have h := h.1 c13
    refine zu_bipush d_4015_62 zj_43 ?_
    exact (u_X5_sum_64 hB h).weak ⟨rfl, rfl, rfl, trivial⟩
  · have h := h.2 c13
    refine zu_bipush d_4015_57 zj_45 ?_
    refine zu_goto (t := 64) d_4015_59 rfl ?_
    exact (u_X5_sum_64 hB h).weak ⟨rfl, rfl, rfl, trivial⟩
def w_X5_sum_266 (X : zs_X) (d : Nat) (p0 : Nat) (p2 : Option Nat) (q0 : Option Nat) (q1 : Option Nat) (S : zs_T) (Q : zs_Q) : Prop :=
  (∃ b1, q0 = some b1 ∧ zs_K S b1 = some (.inl 11) ∧ ab_n0 X.1 ≤ b1 ∧ ∀ S5, S5 = zs_sR S 11002 b1 q1 → zs_U X d 4015 130 [(0, .ref p0), (1, va_rf p2)] [] S5 Q)
theorem u_X5_sum_266 {σ : Nat → Nat} {n0 : Nat} {bf : ab_B} {d : Nat} {p0 : Nat} {p2 : Option Nat} {q0 : Option Nat} {q1 : Option Nat} {S : zs_T} {Q : zs_Q} (hB : zt_B bf) (h : w_X5_sum_266 (zx σ n0 bf) d p0 p2 q0 q1 S Q) : zs_U (zx σ n0 bf) d 4015 266 [(0, .ref p0), (2, va_rf p2)] [va_rf q1, va_rf q0] S Q := by
  unfold w_X5_sum_266 at h
  obtain ⟨b1, e2, h⟩ := h
  refine zs_stk1 (zs_rfe e2) ?_
  obtain ⟨k3, h⟩ := h
  obtain ⟨k4, h⟩ := h
  refine zp_4_297 (v := q1) rfl d_4015_266 k3 k4 ?_
  generalize e6 : zs_sR S 11002 b1 q1 = S5
  have h := h S5 e6.symm
  have K7 : ∀ b, zs_K S5 b = zs_K S b := zs_Kt e6 (zs_KsR _ _ _ _) (fun _ => rfl)
  refine zu_aload_n d_4015_269 rfl (zs_rr _) ?_
  refine zu_astore_n d_4015_270 (zs_rr _) (zs_lt zq_4015 rfl) ?_
  refine zu_goto (t := 130) d_4015_271 rfl ?_
  exact h.weak ⟨rfl, rfl, trivial⟩
def w_X5_sum_207 (X : zs_X) (d : Nat) (p0 : Nat) (p1 : Option Nat) (p2 : Option Nat) (q0 : Option Nat) (q1 : Int32) (S : zs_T) (Q : zs_Q) : Prop :=
  (∃ b1, q0 = some b1 ∧ zs_K S b1 = some (.inl 11) ∧ ab_n0 X.1 ≤ b1 ∧ ∀ S5, S5 = zs_sI S 11003 b1 q1 → zs_K S p0 = some (.inl 4) ∧ ∃ b9, (zs_R S5 4000 p0) = some b9 ∧ zs_K S b9 = some (.inl 5) ∧ zs_C X d 5004 [.ref b9] S5 (zs_kV (fun S12 => (∃ b14, p2 = some b14 ∧ zs_K S12 b14 = some (.inl 11) ∧ ab_n0 X.1 ≤ b14 ∧ ∀ S18, S18 = zs_sR S12 11005 b14 p1 → zs_K S12 p0 = some (.inl 4) ∧ zs_C X d 4017 [.ref p0] S18 (zs_kR (fun v23 S22 => (zs_K S22 b14 = some (.inl 11) ∧ ∀ S25, S25 = zs_sR S22 11006 b14 v23 → ((¬ (zs_I S25 11003 b14) = (1031 : Int32) → (zs_K S22 p0 = some (.inl 4) ∧ zs_C X d 4054 [.ref p0, .int (zs_I S25 11003 b14), va_rf p1, va_rf (zs_R S25 11006 b14)] S25 (zs_kR (fun v31 S30 => w_X5_sum_266 X d p0 p2 p2 v31 S30 Q) Q))) ∧ (¬ (¬ (zs_I S25 11003 b14) = (1031 : Int32)) → (zs_K S22 p0 = some (.inl 4) ∧ zs_C X d 4052 [.ref p0, va_rf p1, va_rf (zs_R S25 11006 b14)] S25 (zs_kR (fun v34 S33 => (w_X5_sum_266 X d p0 p2 p2 v34 S33 Q)) Q)))))) Q))) Q))
theorem u_X5_sum_207 {σ : Nat → Nat} {n0 : Nat} {bf : ab_B} {d : Nat} {p0 : Nat} {p1 : Option Nat} {p2 : Option Nat} {q0 : Option Nat} {q1 : Int32} {S : zs_T} {Q : zs_Q} (hB : zt_B bf) (h : w_X5_sum_207 (zx σ n0 bf) d p0 p1 p2 q0 q1 S Q) : zs_U (zx σ n0 bf) d 4015 207 [(0, .ref p0), (1, va_rf p1), (2, va_rf p2)] [.int q1, va_rf q0] S Q := by
  unfold w_X5_sum_207 at h
  obtain ⟨b1, e2, h⟩ := h
  refine zs_stk1 (zs_rfe e2) ?_
  obtain ⟨k3, h⟩ := h
  obtain ⟨k4, h⟩ := h
  refine zp_4_542 (v := q1) rfl d_4015_207 k3 k4 ?_
  generalize e6 : zs_sI S 11003 b1 q1 = S5
  have h := h S5 e6.symm
  have K7 : ∀ b, zs_K S5 b = zs_K S b := zs_Kt e6 (zs_KsI _ _ _ _) (fun _ => rfl)
  refine zu_aload_n d_4015_210 rfl (zs_ra _) ?_
  obtain ⟨k8, h⟩ := h
  refine zg_4_5 rfl d_4015_211 ((K7 _).trans k8) ?_
  obtain ⟨b9, e10, h⟩ := h
  refine zs_stk0 (zs_rfe e10) ?_
  obtain ⟨k11, h⟩ := h
  refine zc_4_29  hB rfl ((K7 _).trans k11) d_4015_214 (Nat.le_of_ble_eq_true rfl) h (fun S12 h => ?_)
  refine zu_aload_n d_4015_217 rfl (zs_rr _) ?_
  refine zu_aload_n d_4015_218 rfl (zs_rr _) ?_
  obtain ⟨b14, e15, h⟩ := h
  refine zs_stk1 (zs_rfe e15) ?_
  obtain ⟨k16, h⟩ := h
  obtain ⟨k17, h⟩ := h
  refine zp_4_539 (v := p1) rfl d_4015_219 k16 k17 ?_
  generalize e19 : zs_sR S12 11005 b14 p1 = S18
  have h := h S18 e19.symm
  have K20 : ∀ b, zs_K S18 b = zs_K S12 b := zs_Kt e19 (zs_KsR _ _ _ _) (fun _ => rfl)
  refine zu_aload_n d_4015_222 rfl (zs_rr _) ?_
  refine zu_aload_n d_4015_223 rfl (zs_ra _) ?_
  obtain ⟨k21, h⟩ := h
  refine zc_4_593  hB rfl ((K20 _).trans k21) d_4015_224 (by simp only [List.map_cons, List.map_nil, List.sum_cons, List.sum_nil, zs_cat, zs_cI, zs_cJ, zs_cA]; exact Nat.le_of_ble_eq_true rfl) h (fun v23 S22 h => ?_)
  refine zs_stk1 (zs_rfe e15) ?_
  obtain ⟨k24, h⟩ := h
  refine zp_4_536 (v := v23) rfl d_4015_227 k24 k17 ?_
  generalize e26 : zs_sR S22 11006 b14 v23 = S25
  have h := h S25 e26.symm
  have K27 : ∀ b, zs_K S25 b = zs_K S22 b := zs_Kt e26 (zs_KsR _ _ _ _) (fun _ => rfl)
  refine zu_aload_n d_4015_230 rfl (zs_rr _) ?_
  refine zu_aload_n d_4015_231 rfl (zs_rr _) ?_
  refine zs_stk0 (zs_rfe e15) ?_
  refine zg_4_542 rfl d_4015_232 ((K27 _).trans k24) ?_
  refine zu_sipush d_4015_235 zh_1031 ?_
  refine zu_cmpne (t := 253) d_4015_238 rfl (fun c28 => ?_) (fun c28 => ?_)
  · have h := h.1 c28
    refine zu_aload_n d_4015_253 rfl (zs_ra _) ?_
    refine zu_aload_n d_4015_254 rfl (zs_rr _) ?_
    refine zs_stk0 (zs_rfe e15) ?_
    refine zg_4_542 rfl d_4015_255 ((K27 _).trans k24) ?_
    refine zu_aload_n d_4015_258 rfl (zs_rr _) ?_
    refine zu_aload_n d_4015_259 rfl (zs_rr _) ?_
    refine zs_stk0 (zs_rfe e15) ?_
    refine zg_4_536 rfl d_4015_260 ((K27 _).trans k24) ?_
    obtain ⟨k29, h⟩ := h
    refine zc_4_604 (x0 := (zs_I S25 11003 b14)) (x1 := p1) (x2 := (zs_R S25 11006 b14)) hB rfl ((K27 _).trans k29) d_4015_263 (by simp only [List.map_cons, List.map_nil, List.sum_cons, List.sum_nil, zs_cat, zs_cI, zs_cJ, zs_cA]; exact Nat.le_of_ble_eq_true rfl) h (fun v31 S30 h => ?_)
    exact (u_X5_sum_266 hB h).weak ⟨rfl, rfl, trivial⟩
  · have h := h.2 c28
    refine zu_aload_n d_4015_241 rfl (zs_ra _) ?_
    refine zu_aload_n d_4015_242 rfl (zs_rr _) ?_
    refine zu_aload_n d_4015_243 rfl (zs_rr _) ?_
    refine zs_stk0 (zs_rfe e15) ?_
    refine zg_4_536 rfl d_4015_244 ((K27 _).trans k24) ?_
    obtain ⟨k32, h⟩ := h
    refine zc_4_600 (x0 := p1) (x1 := (zs_R S25 11006 b14)) hB rfl ((K27 _).trans k32) d_4015_247 (by simp only [List.map_cons, List.map_nil, List.sum_cons, List.sum_nil, zs_cat, zs_cI, zs_cJ, zs_cA]; exact Nat.le_of_ble_eq_true rfl) h (fun v34 S33 h => ?_)
    refine zu_goto (t := 266) d_4015_250 rfl ?_
    exact (u_X5_sum_266 hB h).weak ⟨rfl, rfl, trivial⟩
def w_X5_sum_166 (X : zs_X) (d : Nat) (p0 : Nat) (p1 : Option Nat) (S : zs_T) (Q : zs_Q) : Prop :=
  (zs_K S p0 = some (.inl 4) ∧ ∃ b2, (zs_R S 4000 p0) = some b2 ∧ zs_K S b2 = some (.inl 5) ∧ zs_C X d 4016 [.ref p0, .int (8 : Int32), .int (zs_I S 5005 b2), va_rf none] S (zs_kR (fun v6 S5 => (zs_K S5 p0 = some (.inl 4) ∧ ∃ b8, (zs_R S5 4000 p0) = some b8 ∧ zs_K S5 b8 = some (.inl 5) ∧ zs_C X d 5015 [.ref b8, .int (31 : Int32)] S5 (zs_kI (fun v12 S11 => (((v12 = 0 → (zs_K S11 p0 = some (.inl 4) ∧ ∃ b15, (zs_R S11 4000 p0) = some b15 ∧ zs_K S11 b15 = some (.inl 5) ∧ w_X5_sum_207 X d p0 p1 v6 v6 (zs_I S11 5004 b15) S11 Q)) ∧ (¬ (v12 = 0) → (w_X5_sum_207 X d p0 p1 v6 v6 (1031 : Int32) S11 Q))))) Q))) Q))
theorem u_X5_sum_166 {σ : Nat → Nat} {n0 : Nat} {bf : ab_B} {d : Nat} {p0 : Nat} {p1 : Option Nat} {S : zs_T} {Q : zs_Q} (hB : zt_B bf) (h : w_X5_sum_166 (zx σ n0 bf) d p0 p1 S Q) : zs_U (zx σ n0 bf) d 4015 166 [(0, .ref p0), (1, va_rf p1)] [] S Q := by
  unfold w_X5_sum_166 at h
  refine zu_aload_n d_4015_166 rfl (zs_ra _) ?_
  refine zu_bipush d_4015_167 zj_8 ?_
  refine zu_aload_n d_4015_169 rfl (zs_ra _) ?_
  obtain ⟨k1, h⟩ := h
  refine zg_4_5 rfl d_4015_170 k1 ?_
  obtain ⟨b2, e3, h⟩ := h
  refine zs_stk0 (zs_rfe e3) ?_
  obtain ⟨k4, h⟩ := h
  refine zg_4_11 rfl d_4015_173 k4 ?_
  refine zu_stk d_4015_176 rfl rfl ?_
  refine zc_4_572 (x0 := (8 : Int32)) (x1 := (zs_I S 5005 b2)) (x2 := none) hB rfl k1 d_4015_177 (Nat.le_of_ble_eq_true rfl) h (fun v6 S5 h => ?_)
  refine zu_astore_n d_4015_180 (zs_rr _) (zs_lt zq_4015 rfl) ?_
  refine zs_U.weak (L1 := [(2, va_rf v6), (0, .ref p0), (1, va_rf p1)]) ?_ ⟨rfl, zs_gp1 rfl (Or.inl rfl) rfl, zs_gp1 rfl (Or.inl (zs_cat _)) rfl, trivial⟩
  refine zu_aload_n d_4015_181 rfl (zs_rr _) ?_
  refine zu_aload_n d_4015_182 rfl (zs_ra _) ?_
  obtain ⟨k7, h⟩ := h
  refine zg_4_5 rfl d_4015_183 k7 ?_
  refine zu_bipush d_4015_186 zj_31 ?_
  obtain ⟨b8, e9, h⟩ := h
  refine zs_stk1 (zs_rfe e9) ?_
  obtain ⟨k10, h⟩ := h
  refine zc_4_33 (x0 := (31 : Int32)) hB rfl k10 d_4015_188 (by simp only [List.map_cons, List.map_nil, List.sum_cons, List.sum_nil, zs_cat, zs_cI, zs_cJ, zs_cA]; exact Nat.le_of_ble_eq_true rfl) h (fun v12 S11 h => ?_)
  refine zu_ifeq (t := 200) d_4015_191 rfl (fun c13 => ?_) (fun c13 => ?_)
  · have h := h.1 c13
    refine zu_aload_n d_4015_200 rfl (zs_ra _) ?_
    obtain ⟨k14, h⟩ := h
    refine zg_4_5 rfl d_4015_201 k14 ?_
    obtain ⟨b15, e16, h⟩ := h
    refine zs_stk0 (zs_rfe e16) ?_
    obtain ⟨k17, h⟩ := h
    refine zg_4_40 rfl d_4015_204 k17 ?_
    exact (u_X5_sum_207 hB h).weak ⟨rfl, rfl, rfl, trivial⟩
  · have h := h.2 c13
    refine zu_sipush d_4015_194 zh_1031 ?_
    refine zu_goto (t := 207) d_4015_197 rfl ?_
    exact (u_X5_sum_207 hB h).weak ⟨rfl, rfl, rfl, trivial⟩
def w_X5_sum_130 (X : zs_X) (d : Nat) (p0 : Nat) (p1 : Option Nat) (S : zs_T) (Q : zs_Q) : Prop :=
  (zs_K S p0 = some (.inl 4) ∧ ∃ b2, (zs_R S 4000 p0) = some b2 ∧ zs_K S b2 = some (.inl 5) ∧ zs_C X d 5017 [.ref b2, .int (43 : Int32)] S (zs_kI (fun v6 S5 => (((¬ v6 = 0 → w_X5_sum_166 X d p0 p1 S5 Q) ∧ (¬ (¬ v6 = 0) → (zs_K S5 p0 = some (.inl 4) ∧ ∃ b9, (zs_R S5 4000 p0) = some b9 ∧ zs_K S5 b9 = some (.inl 5) ∧ zs_C X d 5017 [.ref b9, .int (45 : Int32)] S5 (zs_kI (fun v13 S12 => (((¬ v13 = 0 → w_X5_sum_166 X d p0 p1 S12 Q) ∧ (¬ (¬ v13 = 0) → (zs_K S12 p0 = some (.inl 4) ∧ ∃ b16, (zs_R S12 4000 p0) = some b16 ∧ zs_K S12 b16 = some (.inl 5) ∧ zs_C X d 5015 [.ref b16, .int (31 : Int32)] S12 (zs_kI (fun v20 S19 => (((v20 = 0 → (Q (.returned (some (va_rf p1))) S19)) ∧ (¬ (v20 = 0) → w_X5_sum_166 X d p0 p1 S19 Q)))) Q)))))) Q)))))) Q))
theorem u_X5_sum_130 {σ : Nat → Nat} {n0 : Nat} {bf : ab_B} {d : Nat} {p0 : Nat} {p1 : Option Nat} {S : zs_T} {Q : zs_Q} (hB : zt_B bf) (h : w_X5_sum_130 (zx σ n0 bf) d p0 p1 S Q) : zs_U (zx σ n0 bf) d 4015 130 [(0, .ref p0), (1, va_rf p1)] [] S Q := by
  unfold w_X5_sum_130 at h
  refine zu_aload_n d_4015_130 rfl (zs_ra _) ?_
  obtain ⟨k1, h⟩ := h
  refine zg_4_5 rfl d_4015_131 k1 ?_
  refine zu_bipush d_4015_134 zj_43 ?_
  obtain ⟨b2, e3, h⟩ := h
  refine zs_stk1 (zs_rfe e3) ?_
  obtain ⟨k4, h⟩ := h
  refine zc_4_21 (x0 := (43 : Int32)) hB rfl k4 d_4015_136 (Nat.le_of_ble_eq_true rfl) h (fun v6 S5 h => ?_)
  refine zu_ifne (t := 166) d_4015_139 rfl (fun c7 => ?_) (fun c7 => ?_)
  · have h := h.1 c7
    exact (u_X5_sum_166 hB h).weak ⟨rfl, rfl, trivial⟩
  · have h := h.2 c7
    refine zu_aload_n d_4015_142 rfl (zs_ra _) ?_
    obtain ⟨k8, h⟩ := h
    refine zg_4_5 rfl d_4015_143 k8 ?_
    refine zu_bipush d_4015_146 zj_45 ?_
    obtain ⟨b9, e10, h⟩ := h
    refine zs_stk1 (zs_rfe e10) ?_
    obtain ⟨k11, h⟩ := h
    refine zc_4_21 (x0 := (45 : Int32)) hB rfl k11 d_4015_148 (Nat.le_of_ble_eq_true rfl) h (fun v13 S12 h => ?_)
    refine zu_ifne (t := 166) d_4015_151 rfl (fun c14 => ?_) (fun c14 => ?_)
    · have h := h.1 c14
      exact (u_X5_sum_166 hB h).weak ⟨rfl, rfl, trivial⟩
    · have h := h.2 c14
      refine zu_aload_n d_4015_154 rfl (zs_ra _) ?_
      obtain ⟨k15, h⟩ := h
      refine zg_4_5 rfl d_4015_155 k15 ?_
      refine zu_bipush d_4015_158 zj_31 ?_
      obtain ⟨b16, e17, h⟩ := h
      refine zs_stk1 (zs_rfe e17) ?_
      obtain ⟨k18, h⟩ := h
      refine zc_4_33 (x0 := (31 : Int32)) hB rfl k18 d_4015_160 (Nat.le_of_ble_eq_true rfl) h (fun v20 S19 h => ?_)
      refine zu_ifeq (t := 274) d_4015_163 rfl (fun c21 => ?_) (fun c21 => ?_)
      · have h := h.1 c21
        refine zu_aload_n d_4015_274 rfl (zs_rr _) ?_
        exact zu_aret d_4015_275 zr_4015 (zs_rr _) h
      · have h := h.2 c21
        exact (u_X5_sum_166 hB h).weak ⟨rfl, rfl, trivial⟩
def w_X5_sum (X : zs_X) (d : Nat) (p0 : Nat) (S : zs_T) (Q : zs_Q) : Prop :=
  (zs_K S p0 = some (.inl 4) ∧ ∃ b2, (zs_R S 4000 p0) = some b2 ∧ zs_K S b2 = some (.inl 5) ∧ zs_C X d 5017 [.ref b2, .int (43 : Int32)] S (zs_kI (fun v6 S5 => (((¬ v6 = 0 → w_X5_sum_24 X d p0 S5 Q) ∧ (¬ (¬ v6 = 0) → (zs_K S5 p0 = some (.inl 4) ∧ ∃ b9, (zs_R S5 4000 p0) = some b9 ∧ zs_K S5 b9 = some (.inl 5) ∧ zs_C X d 5017 [.ref b9, .int (45 : Int32)] S5 (zs_kI (fun v13 S12 => (((v13 = 0 → (zs_K S12 p0 = some (.inl 4) ∧ zs_C X d 4017 [.ref p0] S12 (zs_kR (fun v17 S16 => (zs_U X d 4015 130 [(0, .ref p0), (1, va_rf v17)] [] S16 Q)) Q))) ∧ (¬ (v13 = 0) → w_X5_sum_24 X d p0 S12 Q)))) Q)))))) Q))
theorem u_X5_sum {σ : Nat → Nat} {n0 : Nat} {bf : ab_B} {d : Nat} {p0 : Nat} {S : zs_T} {Q : zs_Q} (hB : zt_B bf) (hd : 1 ≤ d) (h : w_X5_sum (zx σ n0 bf) (d - 1) p0 S Q) : zs_C (zx σ n0 bf) d 4015 [.ref p0] S Q := by
  have hL : lv_args 0 [.ref p0] = [(0, .ref p0)] := rfl
  refine zs_C.of1 (hB.2 4015 (by decide) (by decide)) hd (by rw [hL]; exact zs_sub_self _ (by exact ⟨rfl, trivial⟩)) ?_
  rw [hL]
  clear hL
  unfold w_X5_sum at h
  refine zu_aload_n d_4015_0 rfl (zs_ra _) ?_
  obtain ⟨k1, h⟩ := h
  refine zg_4_5 rfl d_4015_1 k1 ?_
  refine zu_bipush d_4015_4 zj_43 ?_
  obtain ⟨b2, e3, h⟩ := h
  refine zs_stk1 (zs_rfe e3) ?_
  obtain ⟨k4, h⟩ := h
  refine zc_4_21 (x0 := (43 : Int32)) hB rfl k4 d_4015_6 (Nat.le_of_ble_eq_true rfl) h (fun v6 S5 h => ?_)
  refine zu_ifne (t := 24) d_4015_9 rfl (fun c7 => ?_) (fun c7 => ?_)
  · have h := h.1 c7
    exact (u_X5_sum_24 hB h).weak ⟨rfl, trivial⟩
  · have h := h.2 c7
    refine zu_aload_n d_4015_12 rfl (zs_ra _) ?_
    obtain ⟨k8, h⟩ := h
    refine zg_4_5 rfl d_4015_13 k8 ?_
    refine zu_bipush d_4015_16 zj_45 ?_
    obtain ⟨b9, e10, h⟩ := h
    refine zs_stk1 (zs_rfe e10) ?_
    obtain ⟨k11, h⟩ := h
    refine zc_4_21 (x0 := (45 : Int32)) hB rfl k11 d_4015_18 (Nat.le_of_ble_eq_true rfl) h (fun v13 S12 h => ?_)
    refine zu_ifeq (t := 125) d_4015_21 rfl (fun c14 => ?_) (fun c14 => ?_)
    · have h := h.1 c14
      refine zu_aload_n d_4015_125 rfl (zs_ra _) ?_
      obtain ⟨k15, h⟩ := h
      refine zc_4_593  hB rfl k15 d_4015_126 (Nat.le_of_ble_eq_true rfl) h (fun v17 S16 h => ?_)
      refine zu_astore_n d_4015_129 (zs_rr _) (zs_lt zq_4015 rfl) ?_
      exact h.weak ⟨rfl, rfl, trivial⟩
    · have h := h.2 c14
      exact (u_X5_sum_24 hB h).weak ⟨rfl, trivial⟩
/-! SchemaPascal$Reader.node(IILSchemaPascal$Type;)LSchemaPascal$Node; -/
theorem zm_4016 {σ : Nat → Nat} {n0 : Nat} {bf : ab_B} : ab_code (zx σ n0 bf).1 4016 = prog_9_method_53_code := rfl
theorem zq_4016 {σ : Nat → Nat} {n0 : Nat} {bf : ab_B} : ab_maxL (zx σ n0 bf).1 4016 = 5 := rfl
theorem zr_4016 {σ : Nat → Nat} {n0 : Nat} {bf : ab_B} : ab_ret (zx σ n0 bf).1 4016 = (Option.some (Jvm.ClassFile.FieldType.object "SchemaPascal$Node")) := rfl
theorem d_4016_0 {σ : Nat → Nat} {n0 : Nat} {bf : ab_B} : decode (ab_code (zx σ n0 bf).1 4016) 0 = .ok (.new 298, 3) := zd zm_4016 (by decide +kernel)
theorem d_4016_3 {σ : Nat → Nat} {n0 : Nat} {bf : ab_B} : decode (ab_code (zx σ n0 bf).1 4016) 3 = .ok (.dup, 1) := zd zm_4016 (by decide +kernel)
theorem d_4016_4 {σ : Nat → Nat} {n0 : Nat} {bf : ab_B} : decode (ab_code (zx σ n0 bf).1 4016) 4 = .ok (.iload_n 1, 1) := zd zm_4016 (by decide +kernel)
theorem d_4016_5 {σ : Nat → Nat} {n0 : Nat} {bf : ab_B} : decode (ab_code (zx σ n0 bf).1 4016) 5 = .ok (.iload_n 2, 1) := zd zm_4016 (by decide +kernel)
theorem d_4016_6 {σ : Nat → Nat} {n0 : Nat} {bf : ab_B} : decode (ab_code (zx σ n0 bf).1 4016) 6 = .ok (.invokespecial 568, 3) := zd zm_4016 (by decide +kernel)
theorem d_4016_9 {σ : Nat → Nat} {n0 : Nat} {bf : ab_B} : decode (ab_code (zx σ n0 bf).1 4016) 9 = .ok (.astore 4, 2) := zd zm_4016 (by decide +kernel)
theorem d_4016_11 {σ : Nat → Nat} {n0 : Nat} {bf : ab_B} : decode (ab_code (zx σ n0 bf).1 4016) 11 = .ok (.aload 4, 2) := zd zm_4016 (by decide +kernel)
theorem d_4016_13 {σ : Nat → Nat} {n0 : Nat} {bf : ab_B} : decode (ab_code (zx σ n0 bf).1 4016) 13 = .ok (.aload_n 3, 1) := zd zm_4016 (by decide +kernel)
theorem d_4016_14 {σ : Nat → Nat} {n0 : Nat} {bf : ab_B} : decode (ab_code (zx σ n0 bf).1 4016) 14 = .ok (.putfield 297, 3) := zd zm_4016 (by decide +kernel)
theorem d_4016_17 {σ : Nat → Nat} {n0 : Nat} {bf : ab_B} : decode (ab_code (zx σ n0 bf).1 4016) 17 = .ok (.aload 4, 2) := zd zm_4016 (by decide +kernel)
theorem d_4016_19 {σ : Nat → Nat} {n0 : Nat} {bf : ab_B} : decode (ab_code (zx σ n0 bf).1 4016) 19 = .ok (.areturn, 1) := zd zm_4016 (by decide +kernel)
def w_X5_node (X : zs_X) (d : Nat) (p0 : Nat) (p1 : Int32) (p2 : Int32) (p3 : Option Nat) (S : zs_T) (Q : zs_Q) : Prop :=
  (∀ a1 S2, a1 = zs_N S → S2 = zs_nw S (.inl 11) 13 → zs_C X d 11000 [.ref a1, .int p1, .int p2] S2 (zs_kV (fun S6 => (zs_K S6 a1 = some (.inl 11) ∧ ab_n0 X.1 ≤ a1 ∧ ∀ S10, S10 = zs_sR S6 11002 a1 p3 → Q (.returned (some (.ref a1))) S10)) Q))
theorem u_X5_node {σ : Nat → Nat} {n0 : Nat} {bf : ab_B} {d : Nat} {p0 : Nat} {p1 : Int32} {p2 : Int32} {p3 : Option Nat} {S : zs_T} {Q : zs_Q} (hB : zt_B bf) (hd : 1 ≤ d) (h : w_X5_node (zx σ n0 bf) (d - 1) p0 p1 p2 p3 S Q) : zs_C (zx σ n0 bf) d 4016 [.ref p0, .int p1, .int p2, va_rf p3] S Q := by
  have hL : lv_args 0 [.ref p0, .int p1, .int p2, va_rf p3] = [(0, .ref p0), (1, .int p1), (2, .int p2), (3, va_rf p3)] := by simp [lv_args, zs_cat, zs_cI, zs_cJ, zs_cA]
  refine zs_C.of1 (hB.2 4016 (by decide) (by decide)) hd (by rw [hL]; exact zs_sub_self _ (by exact ⟨rfl, rfl, rfl, rfl, trivial⟩)) ?_
  rw [hL]
  clear hL
  unfold w_X5_node at h
  refine zn_4_298 rfl d_4016_0 ?_
  generalize e4 : zs_nw S (.inl 11) 13 = S2
  generalize e3 : zs_N S = a1
  have h := h a1 S2 e3.symm e4.symm
  have k5 := zs_kn e3 e4
  refine zu_dup d_4016_3 rfl ?_
  refine zu_iload_n d_4016_4 rfl ?_
  refine zu_iload_n d_4016_5 rfl ?_
  refine zc_4_568 (x0 := p1) (x1 := p2) hB rfl d_4016_6 (Nat.le_of_ble_eq_true rfl) h (fun S6 h => ?_)
  refine zu_astore d_4016_9 (zs_ra _) (zs_lt zq_4016 rfl) ?_
  refine zs_U.weak (L1 := [(4, .ref a1), (0, .ref p0), (1, .int p1), (2, .int p2), (3, va_rf p3)]) ?_ ⟨rfl, zs_gp1 rfl (Or.inl rfl) rfl, zs_gp1 rfl (Or.inl rfl) rfl, zs_gp1 rfl (Or.inl rfl) rfl, zs_gp1 rfl (Or.inl (zs_cat _)) rfl, trivial⟩
  refine zu_aload d_4016_11 rfl (zs_ra _) ?_
  refine zu_aload_n d_4016_13 rfl (zs_rr _) ?_
  obtain ⟨k8, h⟩ := h
  obtain ⟨k9, h⟩ := h
  refine zp_4_297 (v := p3) rfl d_4016_14 k8 k9 ?_
  generalize e11 : zs_sR S6 11002 a1 p3 = S10
  have h := h S10 e11.symm
  have K12 : ∀ b, zs_K S10 b = zs_K S6 b := zs_Kt e11 (zs_KsR _ _ _ _) (fun _ => rfl)
  refine zu_aload d_4016_17 rfl (zs_ra _) ?_
  exact zu_aret d_4016_19 zr_4016 (zs_ra _) h
/-! SchemaPascal$Reader.term()LSchemaPascal$Node; -/
theorem zm_4017 {σ : Nat → Nat} {n0 : Nat} {bf : ab_B} : ab_code (zx σ n0 bf).1 4017 = prog_9_method_64_code := rfl
theorem zq_4017 {σ : Nat → Nat} {n0 : Nat} {bf : ab_B} : ab_maxL (zx σ n0 bf).1 4017 = 4 := rfl
theorem zr_4017 {σ : Nat → Nat} {n0 : Nat} {bf : ab_B} : ab_ret (zx σ n0 bf).1 4017 = (Option.some (Jvm.ClassFile.FieldType.object "SchemaPascal$Node")) := rfl
theorem d_4017_0 {σ : Nat → Nat} {n0 : Nat} {bf : ab_B} : decode (ab_code (zx σ n0 bf).1 4017) 0 = .ok (.aload_n 0, 1) := zd zm_4017 (by decide +kernel)
theorem d_4017_1 {σ : Nat → Nat} {n0 : Nat} {bf : ab_B} : decode (ab_code (zx σ n0 bf).1 4017) 1 = .ok (.invokevirtual 608, 3) := zd zm_4017 (by decide +kernel)
theorem d_4017_4 {σ : Nat → Nat} {n0 : Nat} {bf : ab_B} : decode (ab_code (zx σ n0 bf).1 4017) 4 = .ok (.astore_n 1, 1) := zd zm_4017 (by decide +kernel)
theorem d_4017_5 {σ : Nat → Nat} {n0 : Nat} {bf : ab_B} : decode (ab_code (zx σ n0 bf).1 4017) 5 = .ok (.aload_n 0, 1) := zd zm_4017 (by decide +kernel)
theorem d_4017_6 {σ : Nat → Nat} {n0 : Nat} {bf : ab_B} : decode (ab_code (zx σ n0 bf).1 4017) 6 = .ok (.getfield 5, 3) := zd zm_4017 (by decide +kernel)
theorem d_4017_9 {σ : Nat → Nat} {n0 : Nat} {bf : ab_B} : decode (ab_code (zx σ n0 bf).1 4017) 9 = .ok (.bipush 42, 2) := zd zm_4017 (by decide +kernel)
theorem d_4017_11 {σ : Nat → Nat} {n0 : Nat} {bf : ab_B} : decode (ab_code (zx σ n0 bf).1 4017) 11 = .ok (.invokevirtual 21, 3) := zd zm_4017 (by decide +kernel)
theorem d_4017_14 {σ : Nat → Nat} {n0 : Nat} {bf : ab_B} : decode (ab_code (zx σ n0 bf).1 4017) 14 = .ok (.ifCond .ne 39, 3) := zd zm_4017 (by decide +kernel)
theorem d_4017_17 {σ : Nat → Nat} {n0 : Nat} {bf : ab_B} : decode (ab_code (zx σ n0 bf).1 4017) 17 = .ok (.aload_n 0, 1) := zd zm_4017 (by decide +kernel)
theorem d_4017_18 {σ : Nat → Nat} {n0 : Nat} {bf : ab_B} : decode (ab_code (zx σ n0 bf).1 4017) 18 = .ok (.getfield 5, 3) := zd zm_4017 (by decide +kernel)
theorem d_4017_21 {σ : Nat → Nat} {n0 : Nat} {bf : ab_B} : decode (ab_code (zx σ n0 bf).1 4017) 21 = .ok (.bipush 28, 2) := zd zm_4017 (by decide +kernel)
theorem d_4017_23 {σ : Nat → Nat} {n0 : Nat} {bf : ab_B} : decode (ab_code (zx σ n0 bf).1 4017) 23 = .ok (.invokevirtual 33, 3) := zd zm_4017 (by decide +kernel)
theorem d_4017_26 {σ : Nat → Nat} {n0 : Nat} {bf : ab_B} : decode (ab_code (zx σ n0 bf).1 4017) 26 = .ok (.ifCond .ne 27, 3) := zd zm_4017 (by decide +kernel)
theorem d_4017_29 {σ : Nat → Nat} {n0 : Nat} {bf : ab_B} : decode (ab_code (zx σ n0 bf).1 4017) 29 = .ok (.aload_n 0, 1) := zd zm_4017 (by decide +kernel)
theorem d_4017_30 {σ : Nat → Nat} {n0 : Nat} {bf : ab_B} : decode (ab_code (zx σ n0 bf).1 4017) 30 = .ok (.getfield 5, 3) := zd zm_4017 (by decide +kernel)
theorem d_4017_33 {σ : Nat → Nat} {n0 : Nat} {bf : ab_B} : decode (ab_code (zx σ n0 bf).1 4017) 33 = .ok (.bipush 29, 2) := zd zm_4017 (by decide +kernel)
theorem d_4017_35 {σ : Nat → Nat} {n0 : Nat} {bf : ab_B} : decode (ab_code (zx σ n0 bf).1 4017) 35 = .ok (.invokevirtual 33, 3) := zd zm_4017 (by decide +kernel)
theorem d_4017_38 {σ : Nat → Nat} {n0 : Nat} {bf : ab_B} : decode (ab_code (zx σ n0 bf).1 4017) 38 = .ok (.ifCond .ne 15, 3) := zd zm_4017 (by decide +kernel)
theorem d_4017_41 {σ : Nat → Nat} {n0 : Nat} {bf : ab_B} : decode (ab_code (zx σ n0 bf).1 4017) 41 = .ok (.aload_n 0, 1) := zd zm_4017 (by decide +kernel)
theorem d_4017_42 {σ : Nat → Nat} {n0 : Nat} {bf : ab_B} : decode (ab_code (zx σ n0 bf).1 4017) 42 = .ok (.getfield 5, 3) := zd zm_4017 (by decide +kernel)
theorem d_4017_45 {σ : Nat → Nat} {n0 : Nat} {bf : ab_B} : decode (ab_code (zx σ n0 bf).1 4017) 45 = .ok (.bipush 30, 2) := zd zm_4017 (by decide +kernel)
theorem d_4017_47 {σ : Nat → Nat} {n0 : Nat} {bf : ab_B} : decode (ab_code (zx σ n0 bf).1 4017) 47 = .ok (.invokevirtual 33, 3) := zd zm_4017 (by decide +kernel)
theorem d_4017_50 {σ : Nat → Nat} {n0 : Nat} {bf : ab_B} : decode (ab_code (zx σ n0 bf).1 4017) 50 = .ok (.ifCond .eq 217, 3) := zd zm_4017 (by decide +kernel)
theorem d_4017_53 {σ : Nat → Nat} {n0 : Nat} {bf : ab_B} : decode (ab_code (zx σ n0 bf).1 4017) 53 = .ok (.aload_n 0, 1) := zd zm_4017 (by decide +kernel)
theorem d_4017_54 {σ : Nat → Nat} {n0 : Nat} {bf : ab_B} : decode (ab_code (zx σ n0 bf).1 4017) 54 = .ok (.bipush 8, 2) := zd zm_4017 (by decide +kernel)
theorem d_4017_56 {σ : Nat → Nat} {n0 : Nat} {bf : ab_B} : decode (ab_code (zx σ n0 bf).1 4017) 56 = .ok (.aload_n 0, 1) := zd zm_4017 (by decide +kernel)
theorem d_4017_57 {σ : Nat → Nat} {n0 : Nat} {bf : ab_B} : decode (ab_code (zx σ n0 bf).1 4017) 57 = .ok (.getfield 5, 3) := zd zm_4017 (by decide +kernel)
theorem d_4017_60 {σ : Nat → Nat} {n0 : Nat} {bf : ab_B} : decode (ab_code (zx σ n0 bf).1 4017) 60 = .ok (.getfield 11, 3) := zd zm_4017 (by decide +kernel)
theorem d_4017_63 {σ : Nat → Nat} {n0 : Nat} {bf : ab_B} : decode (ab_code (zx σ n0 bf).1 4017) 63 = .ok (.aconst_null, 1) := zd zm_4017 (by decide +kernel)
theorem d_4017_64 {σ : Nat → Nat} {n0 : Nat} {bf : ab_B} : decode (ab_code (zx σ n0 bf).1 4017) 64 = .ok (.invokevirtual 572, 3) := zd zm_4017 (by decide +kernel)
theorem d_4017_67 {σ : Nat → Nat} {n0 : Nat} {bf : ab_B} : decode (ab_code (zx σ n0 bf).1 4017) 67 = .ok (.astore_n 2, 1) := zd zm_4017 (by decide +kernel)
theorem d_4017_68 {σ : Nat → Nat} {n0 : Nat} {bf : ab_B} : decode (ab_code (zx σ n0 bf).1 4017) 68 = .ok (.aload_n 2, 1) := zd zm_4017 (by decide +kernel)
theorem d_4017_69 {σ : Nat → Nat} {n0 : Nat} {bf : ab_B} : decode (ab_code (zx σ n0 bf).1 4017) 69 = .ok (.aload_n 0, 1) := zd zm_4017 (by decide +kernel)
theorem d_4017_70 {σ : Nat → Nat} {n0 : Nat} {bf : ab_B} : decode (ab_code (zx σ n0 bf).1 4017) 70 = .ok (.getfield 5, 3) := zd zm_4017 (by decide +kernel)
theorem d_4017_73 {σ : Nat → Nat} {n0 : Nat} {bf : ab_B} : decode (ab_code (zx σ n0 bf).1 4017) 73 = .ok (.getfield 231, 3) := zd zm_4017 (by decide +kernel)
theorem d_4017_76 {σ : Nat → Nat} {n0 : Nat} {bf : ab_B} : decode (ab_code (zx σ n0 bf).1 4017) 76 = .ok (.ifCond .ne 17, 3) := zd zm_4017 (by decide +kernel)
theorem d_4017_79 {σ : Nat → Nat} {n0 : Nat} {bf : ab_B} : decode (ab_code (zx σ n0 bf).1 4017) 79 = .ok (.aload_n 0, 1) := zd zm_4017 (by decide +kernel)
theorem d_4017_80 {σ : Nat → Nat} {n0 : Nat} {bf : ab_B} : decode (ab_code (zx σ n0 bf).1 4017) 80 = .ok (.getfield 5, 3) := zd zm_4017 (by decide +kernel)
theorem d_4017_83 {σ : Nat → Nat} {n0 : Nat} {bf : ab_B} : decode (ab_code (zx σ n0 bf).1 4017) 83 = .ok (.getfield 40, 3) := zd zm_4017 (by decide +kernel)
theorem d_4017_86 {σ : Nat → Nat} {n0 : Nat} {bf : ab_B} : decode (ab_code (zx σ n0 bf).1 4017) 86 = .ok (.sipush 1000, 3) := zd zm_4017 (by decide +kernel)
theorem d_4017_89 {σ : Nat → Nat} {n0 : Nat} {bf : ab_B} : decode (ab_code (zx σ n0 bf).1 4017) 89 = .ok (.iadd, 1) := zd zm_4017 (by decide +kernel)
theorem d_4017_90 {σ : Nat → Nat} {n0 : Nat} {bf : ab_B} : decode (ab_code (zx σ n0 bf).1 4017) 90 = .ok (.goto 10, 3) := zd zm_4017 (by decide +kernel)
theorem d_4017_93 {σ : Nat → Nat} {n0 : Nat} {bf : ab_B} : decode (ab_code (zx σ n0 bf).1 4017) 93 = .ok (.aload_n 0, 1) := zd zm_4017 (by decide +kernel)
theorem d_4017_94 {σ : Nat → Nat} {n0 : Nat} {bf : ab_B} : decode (ab_code (zx σ n0 bf).1 4017) 94 = .ok (.getfield 5, 3) := zd zm_4017 (by decide +kernel)
theorem d_4017_97 {σ : Nat → Nat} {n0 : Nat} {bf : ab_B} : decode (ab_code (zx σ n0 bf).1 4017) 97 = .ok (.getfield 40, 3) := zd zm_4017 (by decide +kernel)
theorem d_4017_100 {σ : Nat → Nat} {n0 : Nat} {bf : ab_B} : decode (ab_code (zx σ n0 bf).1 4017) 100 = .ok (.putfield 542, 3) := zd zm_4017 (by decide +kernel)
theorem d_4017_103 {σ : Nat → Nat} {n0 : Nat} {bf : ab_B} : decode (ab_code (zx σ n0 bf).1 4017) 103 = .ok (.aload_n 0, 1) := zd zm_4017 (by decide +kernel)
theorem d_4017_104 {σ : Nat → Nat} {n0 : Nat} {bf : ab_B} : decode (ab_code (zx σ n0 bf).1 4017) 104 = .ok (.getfield 5, 3) := zd zm_4017 (by decide +kernel)
theorem d_4017_107 {σ : Nat → Nat} {n0 : Nat} {bf : ab_B} : decode (ab_code (zx σ n0 bf).1 4017) 107 = .ok (.invokevirtual 29, 3) := zd zm_4017 (by decide +kernel)
theorem d_4017_110 {σ : Nat → Nat} {n0 : Nat} {bf : ab_B} : decode (ab_code (zx σ n0 bf).1 4017) 110 = .ok (.aload_n 2, 1) := zd zm_4017 (by decide +kernel)
theorem d_4017_111 {σ : Nat → Nat} {n0 : Nat} {bf : ab_B} : decode (ab_code (zx σ n0 bf).1 4017) 111 = .ok (.aload_n 1, 1) := zd zm_4017 (by decide +kernel)
theorem d_4017_112 {σ : Nat → Nat} {n0 : Nat} {bf : ab_B} : decode (ab_code (zx σ n0 bf).1 4017) 112 = .ok (.putfield 539, 3) := zd zm_4017 (by decide +kernel)
theorem d_4017_115 {σ : Nat → Nat} {n0 : Nat} {bf : ab_B} : decode (ab_code (zx σ n0 bf).1 4017) 115 = .ok (.aload_n 2, 1) := zd zm_4017 (by decide +kernel)
theorem d_4017_116 {σ : Nat → Nat} {n0 : Nat} {bf : ab_B} : decode (ab_code (zx σ n0 bf).1 4017) 116 = .ok (.aload_n 0, 1) := zd zm_4017 (by decide +kernel)
theorem d_4017_117 {σ : Nat → Nat} {n0 : Nat} {bf : ab_B} : decode (ab_code (zx σ n0 bf).1 4017) 117 = .ok (.invokevirtual 608, 3) := zd zm_4017 (by decide +kernel)
theorem d_4017_120 {σ : Nat → Nat} {n0 : Nat} {bf : ab_B} : decode (ab_code (zx σ n0 bf).1 4017) 120 = .ok (.putfield 536, 3) := zd zm_4017 (by decide +kernel)
theorem d_4017_123 {σ : Nat → Nat} {n0 : Nat} {bf : ab_B} : decode (ab_code (zx σ n0 bf).1 4017) 123 = .ok (.aload_n 2, 1) := zd zm_4017 (by decide +kernel)
theorem d_4017_124 {σ : Nat → Nat} {n0 : Nat} {bf : ab_B} : decode (ab_code (zx σ n0 bf).1 4017) 124 = .ok (.getfield 542, 3) := zd zm_4017 (by decide +kernel)
theorem d_4017_127 {σ : Nat → Nat} {n0 : Nat} {bf : ab_B} : decode (ab_code (zx σ n0 bf).1 4017) 127 = .ok (.sipush 1030, 3) := zd zm_4017 (by decide +kernel)
theorem d_4017_130 {σ : Nat → Nat} {n0 : Nat} {bf : ab_B} : decode (ab_code (zx σ n0 bf).1 4017) 130 = .ok (.if_icmp .ne 19, 3) := zd zm_4017 (by decide +kernel)
theorem d_4017_133 {σ : Nat → Nat} {n0 : Nat} {bf : ab_B} : decode (ab_code (zx σ n0 bf).1 4017) 133 = .ok (.aload_n 2, 1) := zd zm_4017 (by decide +kernel)
theorem d_4017_134 {σ : Nat → Nat} {n0 : Nat} {bf : ab_B} : decode (ab_code (zx σ n0 bf).1 4017) 134 = .ok (.aload_n 0, 1) := zd zm_4017 (by decide +kernel)
theorem d_4017_135 {σ : Nat → Nat} {n0 : Nat} {bf : ab_B} : decode (ab_code (zx σ n0 bf).1 4017) 135 = .ok (.aload_n 1, 1) := zd zm_4017 (by decide +kernel)
theorem d_4017_136 {σ : Nat → Nat} {n0 : Nat} {bf : ab_B} : decode (ab_code (zx σ n0 bf).1 4017) 136 = .ok (.aload_n 2, 1) := zd zm_4017 (by decide +kernel)
theorem d_4017_137 {σ : Nat → Nat} {n0 : Nat} {bf : ab_B} : decode (ab_code (zx σ n0 bf).1 4017) 137 = .ok (.getfield 536, 3) := zd zm_4017 (by decide +kernel)
theorem d_4017_140 {σ : Nat → Nat} {n0 : Nat} {bf : ab_B} : decode (ab_code (zx σ n0 bf).1 4017) 140 = .ok (.invokevirtual 600, 3) := zd zm_4017 (by decide +kernel)
theorem d_4017_143 {σ : Nat → Nat} {n0 : Nat} {bf : ab_B} : decode (ab_code (zx σ n0 bf).1 4017) 143 = .ok (.putfield 297, 3) := zd zm_4017 (by decide +kernel)
theorem d_4017_146 {σ : Nat → Nat} {n0 : Nat} {bf : ab_B} : decode (ab_code (zx σ n0 bf).1 4017) 146 = .ok (.goto 116, 3) := zd zm_4017 (by decide +kernel)
theorem d_4017_149 {σ : Nat → Nat} {n0 : Nat} {bf : ab_B} : decode (ab_code (zx σ n0 bf).1 4017) 149 = .ok (.aload_n 2, 1) := zd zm_4017 (by decide +kernel)
theorem d_4017_150 {σ : Nat → Nat} {n0 : Nat} {bf : ab_B} : decode (ab_code (zx σ n0 bf).1 4017) 150 = .ok (.getfield 542, 3) := zd zm_4017 (by decide +kernel)
theorem d_4017_153 {σ : Nat → Nat} {n0 : Nat} {bf : ab_B} : decode (ab_code (zx σ n0 bf).1 4017) 153 = .ok (.bipush 42, 2) := zd zm_4017 (by decide +kernel)
theorem d_4017_155 {σ : Nat → Nat} {n0 : Nat} {bf : ab_B} : decode (ab_code (zx σ n0 bf).1 4017) 155 = .ok (.if_icmp .ne 24, 3) := zd zm_4017 (by decide +kernel)
theorem d_4017_158 {σ : Nat → Nat} {n0 : Nat} {bf : ab_B} : decode (ab_code (zx σ n0 bf).1 4017) 158 = .ok (.aload_n 1, 1) := zd zm_4017 (by decide +kernel)
theorem d_4017_159 {σ : Nat → Nat} {n0 : Nat} {bf : ab_B} : decode (ab_code (zx σ n0 bf).1 4017) 159 = .ok (.getfield 297, 3) := zd zm_4017 (by decide +kernel)
theorem d_4017_162 {σ : Nat → Nat} {n0 : Nat} {bf : ab_B} : decode (ab_code (zx σ n0 bf).1 4017) 162 = .ok (.aload_n 2, 1) := zd zm_4017 (by decide +kernel)
theorem d_4017_163 {σ : Nat → Nat} {n0 : Nat} {bf : ab_B} : decode (ab_code (zx σ n0 bf).1 4017) 163 = .ok (.getfield 536, 3) := zd zm_4017 (by decide +kernel)
theorem d_4017_166 {σ : Nat → Nat} {n0 : Nat} {bf : ab_B} : decode (ab_code (zx σ n0 bf).1 4017) 166 = .ok (.getfield 297, 3) := zd zm_4017 (by decide +kernel)
theorem d_4017_169 {σ : Nat → Nat} {n0 : Nat} {bf : ab_B} : decode (ab_code (zx σ n0 bf).1 4017) 169 = .ok (.invokestatic 590, 3) := zd zm_4017 (by decide +kernel)
theorem d_4017_172 {σ : Nat → Nat} {n0 : Nat} {bf : ab_B} : decode (ab_code (zx σ n0 bf).1 4017) 172 = .ok (.ifCond .eq 7, 3) := zd zm_4017 (by decide +kernel)
theorem d_4017_175 {σ : Nat → Nat} {n0 : Nat} {bf : ab_B} : decode (ab_code (zx σ n0 bf).1 4017) 175 = .ok (.iconst 1, 1) := zd zm_4017 (by decide +kernel)
theorem d_4017_176 {σ : Nat → Nat} {n0 : Nat} {bf : ab_B} : decode (ab_code (zx σ n0 bf).1 4017) 176 = .ok (.goto 4, 3) := zd zm_4017 (by decide +kernel)
theorem d_4017_179 {σ : Nat → Nat} {n0 : Nat} {bf : ab_B} : decode (ab_code (zx σ n0 bf).1 4017) 179 = .ok (.iconst 0, 1) := zd zm_4017 (by decide +kernel)
theorem d_4017_180 {σ : Nat → Nat} {n0 : Nat} {bf : ab_B} : decode (ab_code (zx σ n0 bf).1 4017) 180 = .ok (.istore_n 3, 1) := zd zm_4017 (by decide +kernel)
theorem d_4017_181 {σ : Nat → Nat} {n0 : Nat} {bf : ab_B} : decode (ab_code (zx σ n0 bf).1 4017) 181 = .ok (.iload_n 3, 1) := zd zm_4017 (by decide +kernel)
theorem d_4017_182 {σ : Nat → Nat} {n0 : Nat} {bf : ab_B} : decode (ab_code (zx σ n0 bf).1 4017) 182 = .ok (.ifCond .ne 40, 3) := zd zm_4017 (by decide +kernel)
theorem d_4017_185 {σ : Nat → Nat} {n0 : Nat} {bf : ab_B} : decode (ab_code (zx σ n0 bf).1 4017) 185 = .ok (.aload_n 1, 1) := zd zm_4017 (by decide +kernel)
theorem d_4017_186 {σ : Nat → Nat} {n0 : Nat} {bf : ab_B} : decode (ab_code (zx σ n0 bf).1 4017) 186 = .ok (.getfield 297, 3) := zd zm_4017 (by decide +kernel)
theorem d_4017_189 {σ : Nat → Nat} {n0 : Nat} {bf : ab_B} : decode (ab_code (zx σ n0 bf).1 4017) 189 = .ok (.invokevirtual 450, 3) := zd zm_4017 (by decide +kernel)
theorem d_4017_192 {σ : Nat → Nat} {n0 : Nat} {bf : ab_B} : decode (ab_code (zx σ n0 bf).1 4017) 192 = .ok (.aload_n 0, 1) := zd zm_4017 (by decide +kernel)
theorem d_4017_193 {σ : Nat → Nat} {n0 : Nat} {bf : ab_B} : decode (ab_code (zx σ n0 bf).1 4017) 193 = .ok (.getfield 147, 3) := zd zm_4017 (by decide +kernel)
theorem d_4017_196 {σ : Nat → Nat} {n0 : Nat} {bf : ab_B} : decode (ab_code (zx σ n0 bf).1 4017) 196 = .ok (.if_acmp .ne 20, 3) := zd zm_4017 (by decide +kernel)
theorem d_4017_199 {σ : Nat → Nat} {n0 : Nat} {bf : ab_B} : decode (ab_code (zx σ n0 bf).1 4017) 199 = .ok (.aload_n 2, 1) := zd zm_4017 (by decide +kernel)
theorem d_4017_200 {σ : Nat → Nat} {n0 : Nat} {bf : ab_B} : decode (ab_code (zx σ n0 bf).1 4017) 200 = .ok (.getfield 536, 3) := zd zm_4017 (by decide +kernel)
theorem d_4017_203 {σ : Nat → Nat} {n0 : Nat} {bf : ab_B} : decode (ab_code (zx σ n0 bf).1 4017) 203 = .ok (.getfield 297, 3) := zd zm_4017 (by decide +kernel)
theorem d_4017_206 {σ : Nat → Nat} {n0 : Nat} {bf : ab_B} : decode (ab_code (zx σ n0 bf).1 4017) 206 = .ok (.invokevirtual 450, 3) := zd zm_4017 (by decide +kernel)
theorem d_4017_209 {σ : Nat → Nat} {n0 : Nat} {bf : ab_B} : decode (ab_code (zx σ n0 bf).1 4017) 209 = .ok (.aload_n 0, 1) := zd zm_4017 (by decide +kernel)
theorem d_4017_210 {σ : Nat → Nat} {n0 : Nat} {bf : ab_B} : decode (ab_code (zx σ n0 bf).1 4017) 210 = .ok (.getfield 147, 3) := zd zm_4017 (by decide +kernel)
theorem d_4017_213 {σ : Nat → Nat} {n0 : Nat} {bf : ab_B} : decode (ab_code (zx σ n0 bf).1 4017) 213 = .ok (.if_acmp .eq 9, 3) := zd zm_4017 (by decide +kernel)
theorem d_4017_216 {σ : Nat → Nat} {n0 : Nat} {bf : ab_B} : decode (ab_code (zx σ n0 bf).1 4017) 216 = .ok (.aload_n 0, 1) := zd zm_4017 (by decide +kernel)
theorem d_4017_217 {σ : Nat → Nat} {n0 : Nat} {bf : ab_B} : decode (ab_code (zx σ n0 bf).1 4017) 217 = .ok (.iconst 5, 1) := zd zm_4017 (by decide +kernel)
theorem d_4017_218 {σ : Nat → Nat} {n0 : Nat} {bf : ab_B} : decode (ab_code (zx σ n0 bf).1 4017) 218 = .ok (.invokevirtual 25, 3) := zd zm_4017 (by decide +kernel)
theorem d_4017_221 {σ : Nat → Nat} {n0 : Nat} {bf : ab_B} : decode (ab_code (zx σ n0 bf).1 4017) 221 = .ok (.athrow, 1) := zd zm_4017 (by decide +kernel)
theorem d_4017_222 {σ : Nat → Nat} {n0 : Nat} {bf : ab_B} : decode (ab_code (zx σ n0 bf).1 4017) 222 = .ok (.aload_n 2, 1) := zd zm_4017 (by decide +kernel)
theorem d_4017_223 {σ : Nat → Nat} {n0 : Nat} {bf : ab_B} : decode (ab_code (zx σ n0 bf).1 4017) 223 = .ok (.iload_n 3, 1) := zd zm_4017 (by decide +kernel)
theorem d_4017_224 {σ : Nat → Nat} {n0 : Nat} {bf : ab_B} : decode (ab_code (zx σ n0 bf).1 4017) 224 = .ok (.ifCond .ne 10, 3) := zd zm_4017 (by decide +kernel)
theorem d_4017_227 {σ : Nat → Nat} {n0 : Nat} {bf : ab_B} : decode (ab_code (zx σ n0 bf).1 4017) 227 = .ok (.aload_n 0, 1) := zd zm_4017 (by decide +kernel)
theorem d_4017_228 {σ : Nat → Nat} {n0 : Nat} {bf : ab_B} : decode (ab_code (zx σ n0 bf).1 4017) 228 = .ok (.getfield 147, 3) := zd zm_4017 (by decide +kernel)
theorem d_4017_231 {σ : Nat → Nat} {n0 : Nat} {bf : ab_B} : decode (ab_code (zx σ n0 bf).1 4017) 231 = .ok (.goto 28, 3) := zd zm_4017 (by decide +kernel)
theorem d_4017_234 {σ : Nat → Nat} {n0 : Nat} {bf : ab_B} : decode (ab_code (zx σ n0 bf).1 4017) 234 = .ok (.aload_n 1, 1) := zd zm_4017 (by decide +kernel)
theorem d_4017_235 {σ : Nat → Nat} {n0 : Nat} {bf : ab_B} : decode (ab_code (zx σ n0 bf).1 4017) 235 = .ok (.getfield 297, 3) := zd zm_4017 (by decide +kernel)
theorem d_4017_238 {σ : Nat → Nat} {n0 : Nat} {bf : ab_B} : decode (ab_code (zx σ n0 bf).1 4017) 238 = .ok (.getfield 369, 3) := zd zm_4017 (by decide +kernel)
theorem d_4017_241 {σ : Nat → Nat} {n0 : Nat} {bf : ab_B} : decode (ab_code (zx σ n0 bf).1 4017) 241 = .ok (.iconst 5, 1) := zd zm_4017 (by decide +kernel)
theorem d_4017_242 {σ : Nat → Nat} {n0 : Nat} {bf : ab_B} : decode (ab_code (zx σ n0 bf).1 4017) 242 = .ok (.if_icmp .ne 10, 3) := zd zm_4017 (by decide +kernel)
theorem d_4017_245 {σ : Nat → Nat} {n0 : Nat} {bf : ab_B} : decode (ab_code (zx σ n0 bf).1 4017) 245 = .ok (.aload_n 1, 1) := zd zm_4017 (by decide +kernel)
theorem d_4017_246 {σ : Nat → Nat} {n0 : Nat} {bf : ab_B} : decode (ab_code (zx σ n0 bf).1 4017) 246 = .ok (.getfield 297, 3) := zd zm_4017 (by decide +kernel)
theorem d_4017_249 {σ : Nat → Nat} {n0 : Nat} {bf : ab_B} : decode (ab_code (zx σ n0 bf).1 4017) 249 = .ok (.goto 10, 3) := zd zm_4017 (by decide +kernel)
theorem d_4017_252 {σ : Nat → Nat} {n0 : Nat} {bf : ab_B} : decode (ab_code (zx σ n0 bf).1 4017) 252 = .ok (.aload_n 2, 1) := zd zm_4017 (by decide +kernel)
theorem d_4017_253 {σ : Nat → Nat} {n0 : Nat} {bf : ab_B} : decode (ab_code (zx σ n0 bf).1 4017) 253 = .ok (.getfield 536, 3) := zd zm_4017 (by decide +kernel)
theorem d_4017_256 {σ : Nat → Nat} {n0 : Nat} {bf : ab_B} : decode (ab_code (zx σ n0 bf).1 4017) 256 = .ok (.getfield 297, 3) := zd zm_4017 (by decide +kernel)
theorem d_4017_259 {σ : Nat → Nat} {n0 : Nat} {bf : ab_B} : decode (ab_code (zx σ n0 bf).1 4017) 259 = .ok (.putfield 297, 3) := zd zm_4017 (by decide +kernel)
theorem d_4017_262 {σ : Nat → Nat} {n0 : Nat} {bf : ab_B} : decode (ab_code (zx σ n0 bf).1 4017) 262 = .ok (.aload_n 2, 1) := zd zm_4017 (by decide +kernel)
theorem d_4017_263 {σ : Nat → Nat} {n0 : Nat} {bf : ab_B} : decode (ab_code (zx σ n0 bf).1 4017) 263 = .ok (.astore_n 1, 1) := zd zm_4017 (by decide +kernel)
theorem d_4017_264 {σ : Nat → Nat} {n0 : Nat} {bf : ab_B} : decode (ab_code (zx σ n0 bf).1 4017) 264 = .ok (.goto (-259), 3) := zd zm_4017 (by decide +kernel)
theorem d_4017_267 {σ : Nat → Nat} {n0 : Nat} {bf : ab_B} : decode (ab_code (zx σ n0 bf).1 4017) 267 = .ok (.aload_n 1, 1) := zd zm_4017 (by decide +kernel)
theorem d_4017_268 {σ : Nat → Nat} {n0 : Nat} {bf : ab_B} : decode (ab_code (zx σ n0 bf).1 4017) 268 = .ok (.areturn, 1) := zd zm_4017 (by decide +kernel)
def w_X5_term_259 (X : zs_X) (d : Nat) (p0 : Nat) (p2 : Option Nat) (q0 : Option Nat) (q1 : Option Nat) (S : zs_T) (Q : zs_Q) : Prop :=
  (∃ b1, q0 = some b1 ∧ zs_K S b1 = some (.inl 11) ∧ ab_n0 X.1 ≤ b1 ∧ ∀ S5, S5 = zs_sR S 11002 b1 q1 → zs_U X d 4017 5 [(0, .ref p0), (1, va_rf p2)] [] S5 Q)
theorem u_X5_term_259 {σ : Nat → Nat} {n0 : Nat} {bf : ab_B} {d : Nat} {p0 : Nat} {p2 : Option Nat} {q0 : Option Nat} {q1 : Option Nat} {S : zs_T} {Q : zs_Q} (hB : zt_B bf) (h : w_X5_term_259 (zx σ n0 bf) d p0 p2 q0 q1 S Q) : zs_U (zx σ n0 bf) d 4017 259 [(0, .ref p0), (2, va_rf p2)] [va_rf q1, va_rf q0] S Q := by
  unfold w_X5_term_259 at h
  obtain ⟨b1, e2, h⟩ := h
  refine zs_stk1 (zs_rfe e2) ?_
  obtain ⟨k3, h⟩ := h
  obtain ⟨k4, h⟩ := h
  refine zp_4_297 (v := q1) rfl d_4017_259 k3 k4 ?_
  generalize e6 : zs_sR S 11002 b1 q1 = S5
  have h := h S5 e6.symm
  have K7 : ∀ b, zs_K S5 b = zs_K S b := zs_Kt e6 (zs_KsR _ _ _ _) (fun _ => rfl)
  refine zu_aload_n d_4017_262 rfl (zs_rr _) ?_
  refine zu_astore_n d_4017_263 (zs_rr _) (zs_lt zq_4017 rfl) ?_
  refine zu_goto (t := 5) d_4017_264 rfl ?_
  exact h.weak ⟨rfl, rfl, trivial⟩
def w_X5_term_222 (X : zs_X) (d : Nat) (p0 : Nat) (p1 : Option Nat) (p2 : Option Nat) (p3 : Int32) (S : zs_T) (Q : zs_Q) : Prop :=
  (((¬ p3 = 0 → (∃ b2, p1 = some b2 ∧ zs_K S b2 = some (.inl 11) ∧ ∃ b5, (zs_R S 11002 b2) = some b5 ∧ zs_K S b5 = some (.inl 6) ∧ ((¬ (zs_I S 6000 b5) = (5 : Int32) → (∃ b9, p2 = some b9 ∧ zs_K S b9 = some (.inl 11) ∧ ∃ b12, (zs_R S 11006 b9) = some b12 ∧ zs_K S b12 = some (.inl 11) ∧ w_X5_term_259 X d p0 p2 p2 (zs_R S 11002 b12) S Q)) ∧ (¬ (¬ (zs_I S 6000 b5) = (5 : Int32)) → (w_X5_term_259 X d p0 p2 p2 (zs_R S 11002 b2) S Q))))) ∧ (¬ (¬ p3 = 0) → (zs_K S p0 = some (.inl 4) ∧ w_X5_term_259 X d p0 p2 p2 (zs_R S 4002 p0) S Q))))
theorem u_X5_term_222 {σ : Nat → Nat} {n0 : Nat} {bf : ab_B} {d : Nat} {p0 : Nat} {p1 : Option Nat} {p2 : Option Nat} {p3 : Int32} {S : zs_T} {Q : zs_Q} (hB : zt_B bf) (h : w_X5_term_222 (zx σ n0 bf) d p0 p1 p2 p3 S Q) : zs_U (zx σ n0 bf) d 4017 222 [(0, .ref p0), (1, va_rf p1), (2, va_rf p2), (3, .int p3)] [] S Q := by
  unfold w_X5_term_222 at h
  refine zu_aload_n d_4017_222 rfl (zs_rr _) ?_
  refine zu_iload_n d_4017_223 rfl ?_
  refine zu_ifne (t := 234) d_4017_224 rfl (fun c1 => ?_) (fun c1 => ?_)
  · have h := h.1 c1
    refine zu_aload_n d_4017_234 rfl (zs_rr _) ?_
    obtain ⟨b2, e3, h⟩ := h
    refine zs_stk0 (zs_rfe e3) ?_
    obtain ⟨k4, h⟩ := h
    refine zg_4_297 rfl d_4017_235 k4 ?_
    obtain ⟨b5, e6, h⟩ := h
    refine zs_stk0 (zs_rfe e6) ?_
    obtain ⟨k7, h⟩ := h
    refine zg_4_369 rfl d_4017_238 k7 ?_
    refine zu_iconst d_4017_241 zi_5 ?_
    refine zu_cmpne (t := 252) d_4017_242 rfl (fun c8 => ?_) (fun c8 => ?_)
    · have h := h.1 c8
      refine zu_aload_n d_4017_252 rfl (zs_rr _) ?_
      obtain ⟨b9, e10, h⟩ := h
      refine zs_stk0 (zs_rfe e10) ?_
      obtain ⟨k11, h⟩ := h
      refine zg_4_536 rfl d_4017_253 k11 ?_
      obtain ⟨b12, e13, h⟩ := h
      refine zs_stk0 (zs_rfe e13) ?_
      obtain ⟨k14, h⟩ := h
      refine zg_4_297 rfl d_4017_256 k14 ?_
      exact (u_X5_term_259 hB h).weak ⟨rfl, rfl, trivial⟩
    · have h := h.2 c8
      refine zu_aload_n d_4017_245 rfl (zs_rr _) ?_
      refine zs_stk0 (zs_rfe e3) ?_
      refine zg_4_297 rfl d_4017_246 k4 ?_
      refine zu_goto (t := 259) d_4017_249 rfl ?_
      exact (u_X5_term_259 hB h).weak ⟨rfl, rfl, trivial⟩
  · have h := h.2 c1
    refine zu_aload_n d_4017_227 rfl (zs_ra _) ?_
    obtain ⟨k15, h⟩ := h
    refine zg_4_147 rfl d_4017_228 k15 ?_
    refine zu_goto (t := 259) d_4017_231 rfl ?_
    exact (u_X5_term_259 hB h).weak ⟨rfl, rfl, trivial⟩
def w_X5_term_216 (X : zs_X) (d : Nat) (p0 : Nat) (S : zs_T) (Q : zs_Q) : Prop :=
  (zs_K S p0 = some (.inl 4) ∧ zs_C X d 4006 [.ref p0, .int (5 : Int32)] S (zs_kR (fun v3 S2 => (∃ b4, v3 = some b4 ∧ Q (.threw b4) S2)) Q))
theorem u_X5_term_216 {σ : Nat → Nat} {n0 : Nat} {bf : ab_B} {d : Nat} {p0 : Nat} {S : zs_T} {Q : zs_Q} (hB : zt_B bf) (h : w_X5_term_216 (zx σ n0 bf) d p0 S Q) : zs_U (zx σ n0 bf) d 4017 216 [(0, .ref p0)] [] S Q := by
  unfold w_X5_term_216 at h
  refine zu_aload_n d_4017_216 rfl (zs_ra _) ?_
  refine zu_iconst d_4017_217 zi_5 ?_
  obtain ⟨k1, h⟩ := h
  refine zc_4_25 (x0 := (5 : Int32)) hB rfl k1 d_4017_218 (Nat.le_of_ble_eq_true rfl) h (fun v3 S2 h => ?_)
  obtain ⟨b4, e5, h⟩ := h
  refine zs_stk0 (zs_rfe e5) ?_
  exact zu_throw d_4017_221 h
def w_X5_term_180 (X : zs_X) (d : Nat) (p0 : Nat) (p1 : Option Nat) (p2 : Option Nat) (q0 : Int32) (S : zs_T) (Q : zs_Q) : Prop :=
  (((¬ q0 = 0 → w_X5_term_222 X d p0 p1 p2 q0 S Q) ∧ (¬ (¬ q0 = 0) → (∃ b2, p1 = some b2 ∧ zs_K S b2 = some (.inl 11) ∧ ∃ b5, (zs_R S 11002 b2) = some b5 ∧ zs_K S b5 = some (.inl 6) ∧ zs_C X d 6001 [.ref b5] S (zs_kR (fun v9 S8 => (zs_K S8 p0 = some (.inl 4) ∧ ((¬ v9 = (zs_R S8 4002 p0) → w_X5_term_216 X d p0 S8 Q) ∧ (¬ (¬ v9 = (zs_R S8 4002 p0)) → (∃ b12, p2 = some b12 ∧ zs_K S8 b12 = some (.inl 11) ∧ ∃ b15, (zs_R S8 11006 b12) = some b15 ∧ zs_K S8 b15 = some (.inl 11) ∧ ∃ b18, (zs_R S8 11002 b15) = some b18 ∧ zs_K S8 b18 = some (.inl 6) ∧ zs_C X d 6001 [.ref b18] S8 (zs_kR (fun v22 S21 => (zs_K S21 p0 = some (.inl 4) ∧ ((v22 = (zs_R S21 4002 p0) → w_X5_term_222 X d p0 p1 p2 q0 S21 Q) ∧ (¬ (v22 = (zs_R S21 4002 p0)) → w_X5_term_216 X d p0 S21 Q)))) Q)))))) Q)))))
theorem u_X5_term_180 {σ : Nat → Nat} {n0 : Nat} {bf : ab_B} {d : Nat} {p0 : Nat} {p1 : Option Nat} {p2 : Option Nat} {q0 : Int32} {S : zs_T} {Q : zs_Q} (hB : zt_B bf) (h : w_X5_term_180 (zx σ n0 bf) d p0 p1 p2 q0 S Q) : zs_U (zx σ n0 bf) d 4017 180 [(0, .ref p0), (1, va_rf p1), (2, va_rf p2)] [.int q0] S Q := by
  unfold w_X5_term_180 at h
  refine zu_istore_n d_4017_180 (zs_lt zq_4017 rfl) ?_
  refine zs_U.weak (L1 := [(3, .int q0), (0, .ref p0), (1, va_rf p1), (2, va_rf p2)]) ?_ ⟨rfl, zs_gp1 rfl (Or.inl rfl) rfl, zs_gp1 rfl (Or.inl (zs_cat _)) rfl, zs_gp1 rfl (Or.inl (zs_cat _)) rfl, trivial⟩
  refine zu_iload_n d_4017_181 rfl ?_
  refine zu_ifne (t := 222) d_4017_182 rfl (fun c1 => ?_) (fun c1 => ?_)
  · have h := h.1 c1
    exact (u_X5_term_222 hB h).weak ⟨rfl, rfl, rfl, rfl, trivial⟩
  · have h := h.2 c1
    refine zu_aload_n d_4017_185 rfl (zs_rr _) ?_
    obtain ⟨b2, e3, h⟩ := h
    refine zs_stk0 (zs_rfe e3) ?_
    obtain ⟨k4, h⟩ := h
    refine zg_4_297 rfl d_4017_186 k4 ?_
    obtain ⟨b5, e6, h⟩ := h
    refine zs_stk0 (zs_rfe e6) ?_
    obtain ⟨k7, h⟩ := h
    refine zc_4_450  hB rfl k7 d_4017_189 (Nat.le_of_ble_eq_true rfl) h (fun v9 S8 h => ?_)
    refine zu_aload_n d_4017_192 rfl (zs_ra _) ?_
    obtain ⟨k10, h⟩ := h
    refine zg_4_147 rfl d_4017_193 k10 ?_
    refine zu_acmpne (u := v9) (w := (zs_R S8 4002 p0)) (t := 216) d_4017_196 rfl rfl rfl (fun c11 => ?_) (fun c11 => ?_)
    · have h := h.1 c11
      exact (u_X5_term_216 hB h).weak ⟨rfl, trivial⟩
    · have h := h.2 c11
      refine zu_aload_n d_4017_199 rfl (zs_rr _) ?_
      obtain ⟨b12, e13, h⟩ := h
      refine zs_stk0 (zs_rfe e13) ?_
      obtain ⟨k14, h⟩ := h
      refine zg_4_536 rfl d_4017_200 k14 ?_
      obtain ⟨b15, e16, h⟩ := h
      refine zs_stk0 (zs_rfe e16) ?_
      obtain ⟨k17, h⟩ := h
      refine zg_4_297 rfl d_4017_203 k17 ?_
      obtain ⟨b18, e19, h⟩ := h
      refine zs_stk0 (zs_rfe e19) ?_
      obtain ⟨k20, h⟩ := h
      refine zc_4_450  hB rfl k20 d_4017_206 (Nat.le_of_ble_eq_true rfl) h (fun v22 S21 h => ?_)
      refine zu_aload_n d_4017_209 rfl (zs_ra _) ?_
      obtain ⟨k23, h⟩ := h
      refine zg_4_147 rfl d_4017_210 k23 ?_
      refine zu_acmpeq (u := v22) (w := (zs_R S21 4002 p0)) (t := 222) d_4017_213 rfl rfl rfl (fun c24 => ?_) (fun c24 => ?_)
      · have h := h.1 c24
        exact (u_X5_term_222 hB h).weak ⟨rfl, rfl, rfl, rfl, trivial⟩
      · have h := h.2 c24
        exact (u_X5_term_216 hB h).weak ⟨rfl, trivial⟩
def w_X5_term_179 (X : zs_X) (d : Nat) (p0 : Nat) (p1 : Option Nat) (p2 : Option Nat) (S : zs_T) (Q : zs_Q) : Prop :=
  (w_X5_term_180 X d p0 p1 p2 (0 : Int32) S Q)
theorem u_X5_term_179 {σ : Nat → Nat} {n0 : Nat} {bf : ab_B} {d : Nat} {p0 : Nat} {p1 : Option Nat} {p2 : Option Nat} {S : zs_T} {Q : zs_Q} (hB : zt_B bf) (h : w_X5_term_179 (zx σ n0 bf) d p0 p1 p2 S Q) : zs_U (zx σ n0 bf) d 4017 179 [(0, .ref p0), (1, va_rf p1), (2, va_rf p2)] [] S Q := by
  unfold w_X5_term_179 at h
  refine zu_iconst d_4017_179 zi_0 ?_
  exact (u_X5_term_180 hB h).weak ⟨rfl, rfl, rfl, trivial⟩
def w_X5_term_158 (X : zs_X) (d : Nat) (p0 : Nat) (p1 : Option Nat) (p2 : Option Nat) (S : zs_T) (Q : zs_Q) : Prop :=
  (∃ b1, p1 = some b1 ∧ zs_K S b1 = some (.inl 11) ∧ ∃ b4, p2 = some b4 ∧ zs_K S b4 = some (.inl 11) ∧ ∃ b7, (zs_R S 11006 b4) = some b7 ∧ zs_K S b7 = some (.inl 11) ∧ zs_C X d 4034 [va_rf (zs_R S 11002 b1), va_rf (zs_R S 11002 b7)] S (zs_kI (fun v11 S10 => (((v11 = 0 → w_X5_term_179 X d p0 p1 p2 S10 Q) ∧ (¬ (v11 = 0) → (w_X5_term_180 X d p0 p1 p2 (1 : Int32) S10 Q))))) Q))
theorem u_X5_term_158 {σ : Nat → Nat} {n0 : Nat} {bf : ab_B} {d : Nat} {p0 : Nat} {p1 : Option Nat} {p2 : Option Nat} {S : zs_T} {Q : zs_Q} (hB : zt_B bf) (h : w_X5_term_158 (zx σ n0 bf) d p0 p1 p2 S Q) : zs_U (zx σ n0 bf) d 4017 158 [(0, .ref p0), (1, va_rf p1), (2, va_rf p2)] [] S Q := by
  unfold w_X5_term_158 at h
  refine zu_aload_n d_4017_158 rfl (zs_rr _) ?_
  obtain ⟨b1, e2, h⟩ := h
  refine zs_stk0 (zs_rfe e2) ?_
  obtain ⟨k3, h⟩ := h
  refine zg_4_297 rfl d_4017_159 k3 ?_
  refine zu_aload_n d_4017_162 rfl (zs_rr _) ?_
  obtain ⟨b4, e5, h⟩ := h
  refine zs_stk0 (zs_rfe e5) ?_
  obtain ⟨k6, h⟩ := h
  refine zg_4_536 rfl d_4017_163 k6 ?_
  obtain ⟨b7, e8, h⟩ := h
  refine zs_stk0 (zs_rfe e8) ?_
  obtain ⟨k9, h⟩ := h
  refine zg_4_297 rfl d_4017_166 k9 ?_
  refine zc_4_590 (x0 := (zs_R S 11002 b1)) (x1 := (zs_R S 11002 b7)) hB rfl d_4017_169 (Nat.le_of_ble_eq_true rfl) h (fun v11 S10 h => ?_)
  refine zu_ifeq (t := 179) d_4017_172 rfl (fun c12 => ?_) (fun c12 => ?_)
  · have h := h.1 c12
    exact (u_X5_term_179 hB h).weak ⟨rfl, rfl, rfl, trivial⟩
  · have h := h.2 c12
    refine zu_iconst d_4017_175 zi_1 ?_
    refine zu_goto (t := 180) d_4017_176 rfl ?_
    exact (u_X5_term_180 hB h).weak ⟨rfl, rfl, rfl, trivial⟩
def w_X5_term_146 (X : zs_X) (d : Nat) (p0 : Nat) (p2 : Option Nat) (S : zs_T) (Q : zs_Q) : Prop :=
  (zs_U X d 4017 5 [(0, .ref p0), (1, va_rf p2)] [] S Q)
theorem u_X5_term_146 {σ : Nat → Nat} {n0 : Nat} {bf : ab_B} {d : Nat} {p0 : Nat} {p2 : Option Nat} {S : zs_T} {Q : zs_Q} (hB : zt_B bf) (h : w_X5_term_146 (zx σ n0 bf) d p0 p2 S Q) : zs_U (zx σ n0 bf) d 4017 146 [(0, .ref p0), (2, va_rf p2)] [] S Q := by
  unfold w_X5_term_146 at h
  refine zu_goto (t := 262) d_4017_146 rfl ?_
  refine zu_aload_n d_4017_262 rfl (zs_rr _) ?_
  refine zu_astore_n d_4017_263 (zs_rr _) (zs_lt zq_4017 rfl) ?_
  refine zu_goto (t := 5) d_4017_264 rfl ?_
  exact h.weak ⟨rfl, rfl, trivial⟩
def w_X5_term_100 (X : zs_X) (d : Nat) (p0 : Nat) (p1 : Option Nat) (p2 : Option Nat) (q0 : Option Nat) (q1 : Int32) (S : zs_T) (Q : zs_Q) : Prop :=
  (∃ b1, q0 = some b1 ∧ zs_K S b1 = some (.inl 11) ∧ ab_n0 X.1 ≤ b1 ∧ ∀ S5, S5 = zs_sI S 11003 b1 q1 → zs_K S p0 = some (.inl 4) ∧ ∃ b9, (zs_R S5 4000 p0) = some b9 ∧ zs_K S b9 = some (.inl 5) ∧ zs_C X d 5004 [.ref b9] S5 (zs_kV (fun S12 => (∃ b14, p2 = some b14 ∧ zs_K S12 b14 = some (.inl 11) ∧ ab_n0 X.1 ≤ b14 ∧ ∀ S18, S18 = zs_sR S12 11005 b14 p1 → zs_K S12 p0 = some (.inl 4) ∧ zs_C X d 4018 [.ref p0] S18 (zs_kR (fun v23 S22 => (zs_K S22 b14 = some (.inl 11) ∧ ∀ S25, S25 = zs_sR S22 11006 b14 v23 → ((¬ (zs_I S25 11003 b14) = (1030 : Int32) → (((¬ (zs_I S25 11003 b14) = (42 : Int32) → w_X5_term_179 X d p0 p1 p2 S25 Q) ∧ (¬ (¬ (zs_I S25 11003 b14) = (42 : Int32)) → w_X5_term_158 X d p0 p1 p2 S25 Q)))) ∧ (¬ (¬ (zs_I S25 11003 b14) = (1030 : Int32)) → (zs_K S22 p0 = some (.inl 4) ∧ zs_C X d 4052 [.ref p0, va_rf p1, va_rf (zs_R S25 11006 b14)] S25 (zs_kR (fun v32 S31 => (zs_K S31 b14 = some (.inl 11) ∧ ∀ S34, S34 = zs_sR S31 11002 b14 v32 → w_X5_term_146 X d p0 p2 S34 Q)) Q)))))) Q))) Q))
theorem u_X5_term_100 {σ : Nat → Nat} {n0 : Nat} {bf : ab_B} {d : Nat} {p0 : Nat} {p1 : Option Nat} {p2 : Option Nat} {q0 : Option Nat} {q1 : Int32} {S : zs_T} {Q : zs_Q} (hB : zt_B bf) (h : w_X5_term_100 (zx σ n0 bf) d p0 p1 p2 q0 q1 S Q) : zs_U (zx σ n0 bf) d 4017 100 [(0, .ref p0), (1, va_rf p1), (2, va_rf p2)] [.int q1, va_rf q0] S Q := by
  unfold w_X5_term_100 at h
  obtain ⟨b1, e2, h⟩ := h
  refine zs_stk1 (zs_rfe e2) ?_
  obtain ⟨k3, h⟩ := h
  obtain ⟨k4, h⟩ := h
  refine zp_4_542 (v := q1) rfl d_4017_100 k3 k4 ?_
  generalize e6 : zs_sI S 11003 b1 q1 = S5
  have h := h S5 e6.symm
  have K7 : ∀ b, zs_K S5 b = zs_K S b := zs_Kt e6 (zs_KsI _ _ _ _) (fun _ => rfl)
  refine zu_aload_n d_4017_103 rfl (zs_ra _) ?_
  obtain ⟨k8, h⟩ := h
  refine zg_4_5 rfl d_4017_104 ((K7 _).trans k8) ?_
  obtain ⟨b9, e10, h⟩ := h
  refine zs_stk0 (zs_rfe e10) ?_
  obtain ⟨k11, h⟩ := h
  refine zc_4_29  hB rfl ((K7 _).trans k11) d_4017_107 (Nat.le_of_ble_eq_true rfl) h (fun S12 h => ?_)
  refine zu_aload_n d_4017_110 rfl (zs_rr _) ?_
  refine zu_aload_n d_4017_111 rfl (zs_rr _) ?_
  obtain ⟨b14, e15, h⟩ := h
  refine zs_stk1 (zs_rfe e15) ?_
  obtain ⟨k16, h⟩ := h
  obtain ⟨k17, h⟩ := h
  refine zp_4_539 (v := p1) rfl d_4017_112 k16 k17 ?_
  generalize e19 : zs_sR S12 11005 b14 p1 = S18
  have h := h S18 e19.symm
  have K20 : ∀ b, zs_K S18 b = zs_K S12 b := zs_Kt e19 (zs_KsR _ _ _ _) (fun _ => rfl)
  refine zu_aload_n d_4017_115 rfl (zs_rr _) ?_
  refine zu_aload_n d_4017_116 rfl (zs_ra _) ?_
  obtain ⟨k21, h⟩ := h
  refine zc_4_608  hB rfl ((K20 _).trans k21) d_4017_117 (by simp only [List.map_cons, List.map_nil, List.sum_cons, List.sum_nil, zs_cat, zs_cI, zs_cJ, zs_cA]; exact Nat.le_of_ble_eq_true rfl) h (fun v23 S22 h => ?_)
  refine zs_stk1 (zs_rfe e15) ?_
  obtain ⟨k24, h⟩ := h
  refine zp_4_536 (v := v23) rfl d_4017_120 k24 k17 ?_
  generalize e26 : zs_sR S22 11006 b14 v23 = S25
  have h := h S25 e26.symm
  have K27 : ∀ b, zs_K S25 b = zs_K S22 b := zs_Kt e26 (zs_KsR _ _ _ _) (fun _ => rfl)
  refine zu_aload_n d_4017_123 rfl (zs_rr _) ?_
  refine zs_stk0 (zs_rfe e15) ?_
  refine zg_4_542 rfl d_4017_124 ((K27 _).trans k24) ?_
  refine zu_sipush d_4017_127 zh_1030 ?_
  refine zu_cmpne (t := 149) d_4017_130 rfl (fun c28 => ?_) (fun c28 => ?_)
  · have h := h.1 c28
    refine zu_aload_n d_4017_149 rfl (zs_rr _) ?_
    refine zs_stk0 (zs_rfe e15) ?_
    refine zg_4_542 rfl d_4017_150 ((K27 _).trans k24) ?_
    refine zu_bipush d_4017_153 zj_42 ?_
    refine zu_cmpne (t := 179) d_4017_155 rfl (fun c29 => ?_) (fun c29 => ?_)
    · have h := h.1 c29
      exact (u_X5_term_179 hB h).weak ⟨rfl, rfl, rfl, trivial⟩
    · have h := h.2 c29
      exact (u_X5_term_158 hB h).weak ⟨rfl, rfl, rfl, trivial⟩
  · have h := h.2 c28
    refine zu_aload_n d_4017_133 rfl (zs_rr _) ?_
    refine zu_aload_n d_4017_134 rfl (zs_ra _) ?_
    refine zu_aload_n d_4017_135 rfl (zs_rr _) ?_
    refine zu_aload_n d_4017_136 rfl (zs_rr _) ?_
    refine zs_stk0 (zs_rfe e15) ?_
    refine zg_4_536 rfl d_4017_137 ((K27 _).trans k24) ?_
    obtain ⟨k30, h⟩ := h
    refine zc_4_600 (x0 := p1) (x1 := (zs_R S25 11006 b14)) hB rfl ((K27 _).trans k30) d_4017_140 (by simp only [List.map_cons, List.map_nil, List.sum_cons, List.sum_nil, zs_cat, zs_cI, zs_cJ, zs_cA]; exact Nat.le_of_ble_eq_true rfl) h (fun v32 S31 h => ?_)
    refine zs_stk1 (zs_rfe e15) ?_
    obtain ⟨k33, h⟩ := h
    refine zp_4_297 (v := v32) rfl d_4017_143 k33 k17 ?_
    generalize e35 : zs_sR S31 11002 b14 v32 = S34
    have h := h S34 e35.symm
    have K36 : ∀ b, zs_K S34 b = zs_K S31 b := zs_Kt e35 (zs_KsR _ _ _ _) (fun _ => rfl)
    exact (u_X5_term_146 hB h).weak ⟨rfl, rfl, trivial⟩
def w_X5_term_53 (X : zs_X) (d : Nat) (p0 : Nat) (p1 : Option Nat) (S : zs_T) (Q : zs_Q) : Prop :=
  (zs_K S p0 = some (.inl 4) ∧ ∃ b2, (zs_R S 4000 p0) = some b2 ∧ zs_K S b2 = some (.inl 5) ∧ zs_C X d 4016 [.ref p0, .int (8 : Int32), .int (zs_I S 5005 b2), va_rf none] S (zs_kR (fun v6 S5 => (zs_K S5 p0 = some (.inl 4) ∧ ∃ b8, (zs_R S5 4000 p0) = some b8 ∧ zs_K S5 b8 = some (.inl 5) ∧ ((¬ (zs_I S5 5003 b8) = 0 → (w_X5_term_100 X d p0 p1 v6 v6 (zs_I S5 5004 b8) S5 Q)) ∧ (¬ (¬ (zs_I S5 5003 b8) = 0) → (w_X5_term_100 X d p0 p1 v6 v6 ((zs_I S5 5004 b8) + (1000 : Int32)) S5 Q))))) Q))
theorem u_X5_term_53 {σ : Nat → Nat} {n0 : Nat} {bf : ab_B} {d : Nat} {p0 : Nat} {p1 : Option Nat} {S : zs_T} {Q : zs_Q} (hB : zt_B bf) (h : w_X5_term_53 (zx σ n0 bf) d p0 p1 S Q) : zs_U (zx σ n0 bf) d 4017 53 [(0, .ref p0), (1, va_rf p1)] [] S Q := by
  unfold w_X5_term_53 at h
  refine zu_aload_n d_4017_53 rfl (zs_ra _) ?_
  refine zu_bipush d_4017_54 zj_8 ?_
  refine zu_aload_n d_4017_56 rfl (zs_ra _) ?_
  obtain ⟨k1, h⟩ := h
  refine zg_4_5 rfl d_4017_57 k1 ?_
  obtain ⟨b2, e3, h⟩ := h
  refine zs_stk0 (zs_rfe e3) ?_
  obtain ⟨k4, h⟩ := h
  refine zg_4_11 rfl d_4017_60 k4 ?_
  refine zu_stk d_4017_63 rfl rfl ?_
  refine zc_4_572 (x0 := (8 : Int32)) (x1 := (zs_I S 5005 b2)) (x2 := none) hB rfl k1 d_4017_64 (Nat.le_of_ble_eq_true rfl) h (fun v6 S5 h => ?_)
  refine zu_astore_n d_4017_67 (zs_rr _) (zs_lt zq_4017 rfl) ?_
  refine zs_U.weak (L1 := [(2, va_rf v6), (0, .ref p0), (1, va_rf p1)]) ?_ ⟨rfl, zs_gp1 rfl (Or.inl rfl) rfl, zs_gp1 rfl (Or.inl (zs_cat _)) rfl, trivial⟩
  refine zu_aload_n d_4017_68 rfl (zs_rr _) ?_
  refine zu_aload_n d_4017_69 rfl (zs_ra _) ?_
  obtain ⟨k7, h⟩ := h
  refine zg_4_5 rfl d_4017_70 k7 ?_
  obtain ⟨b8, e9, h⟩ := h
  refine zs_stk0 (zs_rfe e9) ?_
  obtain ⟨k10, h⟩ := h
  refine zg_4_231 rfl d_4017_73 k10 ?_
  refine zu_ifne (t := 93) d_4017_76 rfl (fun c11 => ?_) (fun c11 => ?_)
  · have h := h.1 c11
    refine zu_aload_n d_4017_93 rfl (zs_ra _) ?_
    refine zg_4_5 rfl d_4017_94 k7 ?_
    refine zs_stk0 (zs_rfe e9) ?_
    refine zg_4_40 rfl d_4017_97 k10 ?_
    exact (u_X5_term_100 hB h).weak ⟨rfl, rfl, rfl, trivial⟩
  · have h := h.2 c11
    refine zu_aload_n d_4017_79 rfl (zs_ra _) ?_
    refine zg_4_5 rfl d_4017_80 k7 ?_
    refine zs_stk0 (zs_rfe e9) ?_
    refine zg_4_40 rfl d_4017_83 k10 ?_
    refine zu_sipush d_4017_86 zh_1000 ?_
    refine zu_stk d_4017_89 rfl rfl ?_
    refine zu_goto (t := 100) d_4017_90 rfl ?_
    exact (u_X5_term_100 hB h).weak ⟨rfl, rfl, rfl, trivial⟩
def w_X5_term_267 (X : zs_X) (d : Nat) (p1 : Option Nat) (S : zs_T) (Q : zs_Q) : Prop :=
  (Q (.returned (some (va_rf p1))) S)
theorem u_X5_term_267 {σ : Nat → Nat} {n0 : Nat} {bf : ab_B} {d : Nat} {p1 : Option Nat} {S : zs_T} {Q : zs_Q} (hB : zt_B bf) (h : w_X5_term_267 (zx σ n0 bf) d p1 S Q) : zs_U (zx σ n0 bf) d 4017 267 [(1, va_rf p1)] [] S Q := by
  unfold w_X5_term_267 at h
  refine zu_aload_n d_4017_267 rfl (zs_rr _) ?_
  exact zu_aret d_4017_268 zr_4017 (zs_rr _) h
def w_X5_term_5 (X : zs_X) (d : Nat) (p0 : Nat) (p1 : Option Nat) (S : zs_T) (Q : zs_Q) : Prop :=
  (zs_K S p0 = some (.inl 4) ∧ ∃ b2, (zs_R S 4000 p0) = some b2 ∧ zs_K S b2 = some (.inl 5) ∧ zs_C X d 5017 [.ref b2, .int (42 : Int32)] S (zs_kI (fun v6 S5 => (((¬ v6 = 0 → w_X5_term_53 X d p0 p1 S5 Q) ∧ (¬ (¬ v6 = 0) → (zs_K S5 p0 = some (.inl 4) ∧ ∃ b9, (zs_R S5 4000 p0) = some b9 ∧ zs_K S5 b9 = some (.inl 5) ∧ zs_C X d 5015 [.ref b9, .int (28 : Int32)] S5 (zs_kI (fun v13 S12 => (((¬ v13 = 0 → w_X5_term_53 X d p0 p1 S12 Q) ∧ (¬ (¬ v13 = 0) → (zs_K S12 p0 = some (.inl 4) ∧ ∃ b16, (zs_R S12 4000 p0) = some b16 ∧ zs_K S12 b16 = some (.inl 5) ∧ zs_C X d 5015 [.ref b16, .int (29 : Int32)] S12 (zs_kI (fun v20 S19 => (((¬ v20 = 0 → w_X5_term_53 X d p0 p1 S19 Q) ∧ (¬ (¬ v20 = 0) → (zs_K S19 p0 = some (.inl 4) ∧ ∃ b23, (zs_R S19 4000 p0) = some b23 ∧ zs_K S19 b23 = some (.inl 5) ∧ zs_C X d 5015 [.ref b23, .int (30 : Int32)] S19 (zs_kI (fun v27 S26 => (((v27 = 0 → w_X5_term_267 X d p1 S26 Q) ∧ (¬ (v27 = 0) → w_X5_term_53 X d p0 p1 S26 Q)))) Q)))))) Q)))))) Q)))))) Q))
theorem u_X5_term_5 {σ : Nat → Nat} {n0 : Nat} {bf : ab_B} {d : Nat} {p0 : Nat} {p1 : Option Nat} {S : zs_T} {Q : zs_Q} (hB : zt_B bf) (h : w_X5_term_5 (zx σ n0 bf) d p0 p1 S Q) : zs_U (zx σ n0 bf) d 4017 5 [(0, .ref p0), (1, va_rf p1)] [] S Q := by
  unfold w_X5_term_5 at h
  refine zu_aload_n d_4017_5 rfl (zs_ra _) ?_
  obtain ⟨k1, h⟩ := h
  refine zg_4_5 rfl d_4017_6 k1 ?_
  refine zu_bipush d_4017_9 zj_42 ?_
  obtain ⟨b2, e3, h⟩ := h
  refine zs_stk1 (zs_rfe e3) ?_
  obtain ⟨k4, h⟩ := h
  refine zc_4_21 (x0 := (42 : Int32)) hB rfl k4 d_4017_11 (Nat.le_of_ble_eq_true rfl) h (fun v6 S5 h => ?_)
  refine zu_ifne (t := 53) d_4017_14 rfl (fun c7 => ?_) (fun c7 => ?_)
  · have h := h.1 c7
    exact (u_X5_term_53 hB h).weak ⟨rfl, rfl, trivial⟩
  · have h := h.2 c7
    refine zu_aload_n d_4017_17 rfl (zs_ra _) ?_
    obtain ⟨k8, h⟩ := h
    refine zg_4_5 rfl d_4017_18 k8 ?_
    refine zu_bipush d_4017_21 zj_28 ?_
    obtain ⟨b9, e10, h⟩ := h
    refine zs_stk1 (zs_rfe e10) ?_
    obtain ⟨k11, h⟩ := h
    refine zc_4_33 (x0 := (28 : Int32)) hB rfl k11 d_4017_23 (Nat.le_of_ble_eq_true rfl) h (fun v13 S12 h => ?_)
    refine zu_ifne (t := 53) d_4017_26 rfl (fun c14 => ?_) (fun c14 => ?_)
    · have h := h.1 c14
      exact (u_X5_term_53 hB h).weak ⟨rfl, rfl, trivial⟩
    · have h := h.2 c14
      refine zu_aload_n d_4017_29 rfl (zs_ra _) ?_
      obtain ⟨k15, h⟩ := h
      refine zg_4_5 rfl d_4017_30 k15 ?_
      refine zu_bipush d_4017_33 zj_29 ?_
      obtain ⟨b16, e17, h⟩ := h
      refine zs_stk1 (zs_rfe e17) ?_
      obtain ⟨k18, h⟩ := h
      refine zc_4_33 (x0 := (29 : Int32)) hB rfl k18 d_4017_35 (Nat.le_of_ble_eq_true rfl) h (fun v20 S19 h => ?_)
      refine zu_ifne (t := 53) d_4017_38 rfl (fun c21 => ?_) (fun c21 => ?_)
      · have h := h.1 c21
        exact (u_X5_term_53 hB h).weak ⟨rfl, rfl, trivial⟩
      · have h := h.2 c21
        refine zu_aload_n d_4017_41 rfl (zs_ra _) ?_
        obtain ⟨k22, h⟩ := h
        refine zg_4_5 rfl d_4017_42 k22 ?_
        refine zu_bipush d_4017_45 zj_30 ?_
        obtain ⟨b23, e24, h⟩ := h
        refine zs_stk1 (zs_rfe e24) ?_
        obtain ⟨k25, h⟩ := h
        refine zc_4_33 (x0 := (30 : Int32)) hB rfl k25 d_4017_47 (Nat.le_of_ble_eq_true rfl) h (fun v27 S26 h => ?_)
        refine zu_ifeq (t := 267) d_4017_50 rfl (fun c28 => ?_) (fun c28 => ?_)
        · have h := h.1 c28
          exact (u_X5_term_267 hB h).weak ⟨rfl, trivial⟩
        · have h := h.2 c28
          exact (u_X5_term_53 hB h).weak ⟨rfl, rfl, trivial⟩
def w_X5_term (X : zs_X) (d : Nat) (p0 : Nat) (S : zs_T) (Q : zs_Q) : Prop :=
  (zs_K S p0 = some (.inl 4) ∧ zs_C X d 4018 [.ref p0] S (zs_kR (fun v3 S2 => (zs_U X d 4017 5 [(0, .ref p0), (1, va_rf v3)] [] S2 Q)) Q))
theorem u_X5_term {σ : Nat → Nat} {n0 : Nat} {bf : ab_B} {d : Nat} {p0 : Nat} {S : zs_T} {Q : zs_Q} (hB : zt_B bf) (hd : 1 ≤ d) (h : w_X5_term (zx σ n0 bf) (d - 1) p0 S Q) : zs_C (zx σ n0 bf) d 4017 [.ref p0] S Q := by
  have hL : lv_args 0 [.ref p0] = [(0, .ref p0)] := rfl
  refine zs_C.of1 (hB.2 4017 (by decide) (by decide)) hd (by rw [hL]; exact zs_sub_self _ (by exact ⟨rfl, trivial⟩)) ?_
  rw [hL]
  clear hL
  unfold w_X5_term at h
  refine zu_aload_n d_4017_0 rfl (zs_ra _) ?_
  obtain ⟨k1, h⟩ := h
  refine zc_4_608  hB rfl k1 d_4017_1 (Nat.le_of_ble_eq_true rfl) h (fun v3 S2 h => ?_)
  refine zu_astore_n d_4017_4 (zs_rr _) (zs_lt zq_4017 rfl) ?_
  exact h.weak ⟨rfl, rfl, trivial⟩
/-! SchemaPascal$Reader.factor()LSchemaPascal$Node; -/
theorem zm_4018 {σ : Nat → Nat} {n0 : Nat} {bf : ab_B} : ab_code (zx σ n0 bf).1 4018 = prog_9_method_65_code := rfl
theorem zq_4018 {σ : Nat → Nat} {n0 : Nat} {bf : ab_B} : ab_maxL (zx σ n0 bf).1 4018 = 2 := rfl
theorem zr_4018 {σ : Nat → Nat} {n0 : Nat} {bf : ab_B} : ab_ret (zx σ n0 bf).1 4018 = (Option.some (Jvm.ClassFile.FieldType.object "SchemaPascal$Node")) := rfl
theorem d_4018_0 {σ : Nat → Nat} {n0 : Nat} {bf : ab_B} : decode (ab_code (zx σ n0 bf).1 4018) 0 = .ok (.aload_n 0, 1) := zd zm_4018 (by decide +kernel)
theorem d_4018_1 {σ : Nat → Nat} {n0 : Nat} {bf : ab_B} : decode (ab_code (zx σ n0 bf).1 4018) 1 = .ok (.getfield 5, 3) := zd zm_4018 (by decide +kernel)
theorem d_4018_4 {σ : Nat → Nat} {n0 : Nat} {bf : ab_B} : decode (ab_code (zx σ n0 bf).1 4018) 4 = .ok (.getfield 231, 3) := zd zm_4018 (by decide +kernel)
theorem d_4018_7 {σ : Nat → Nat} {n0 : Nat} {bf : ab_B} : decode (ab_code (zx σ n0 bf).1 4018) 7 = .ok (.iconst 1, 1) := zd zm_4018 (by decide +kernel)
theorem d_4018_8 {σ : Nat → Nat} {n0 : Nat} {bf : ab_B} : decode (ab_code (zx σ n0 bf).1 4018) 8 = .ok (.if_icmp .ne 34, 3) := zd zm_4018 (by decide +kernel)
theorem d_4018_11 {σ : Nat → Nat} {n0 : Nat} {bf : ab_B} : decode (ab_code (zx σ n0 bf).1 4018) 11 = .ok (.aload_n 0, 1) := zd zm_4018 (by decide +kernel)
theorem d_4018_12 {σ : Nat → Nat} {n0 : Nat} {bf : ab_B} : decode (ab_code (zx σ n0 bf).1 4018) 12 = .ok (.getfield 5, 3) := zd zm_4018 (by decide +kernel)
theorem d_4018_15 {σ : Nat → Nat} {n0 : Nat} {bf : ab_B} : decode (ab_code (zx σ n0 bf).1 4018) 15 = .ok (.getfield 611, 3) := zd zm_4018 (by decide +kernel)
theorem d_4018_18 {σ : Nat → Nat} {n0 : Nat} {bf : ab_B} : decode (ab_code (zx σ n0 bf).1 4018) 18 = .ok (.aload_n 0, 1) := zd zm_4018 (by decide +kernel)
theorem d_4018_19 {σ : Nat → Nat} {n0 : Nat} {bf : ab_B} : decode (ab_code (zx σ n0 bf).1 4018) 19 = .ok (.getfield 147, 3) := zd zm_4018 (by decide +kernel)
theorem d_4018_22 {σ : Nat → Nat} {n0 : Nat} {bf : ab_B} : decode (ab_code (zx σ n0 bf).1 4018) 22 = .ok (.aload_n 0, 1) := zd zm_4018 (by decide +kernel)
theorem d_4018_23 {σ : Nat → Nat} {n0 : Nat} {bf : ab_B} : decode (ab_code (zx σ n0 bf).1 4018) 23 = .ok (.getfield 5, 3) := zd zm_4018 (by decide +kernel)
theorem d_4018_26 {σ : Nat → Nat} {n0 : Nat} {bf : ab_B} : decode (ab_code (zx σ n0 bf).1 4018) 26 = .ok (.getfield 11, 3) := zd zm_4018 (by decide +kernel)
theorem d_4018_29 {σ : Nat → Nat} {n0 : Nat} {bf : ab_B} : decode (ab_code (zx σ n0 bf).1 4018) 29 = .ok (.invokestatic 470, 3) := zd zm_4018 (by decide +kernel)
theorem d_4018_32 {σ : Nat → Nat} {n0 : Nat} {bf : ab_B} : decode (ab_code (zx σ n0 bf).1 4018) 32 = .ok (.astore_n 1, 1) := zd zm_4018 (by decide +kernel)
theorem d_4018_33 {σ : Nat → Nat} {n0 : Nat} {bf : ab_B} : decode (ab_code (zx σ n0 bf).1 4018) 33 = .ok (.aload_n 0, 1) := zd zm_4018 (by decide +kernel)
theorem d_4018_34 {σ : Nat → Nat} {n0 : Nat} {bf : ab_B} : decode (ab_code (zx σ n0 bf).1 4018) 34 = .ok (.getfield 5, 3) := zd zm_4018 (by decide +kernel)
theorem d_4018_37 {σ : Nat → Nat} {n0 : Nat} {bf : ab_B} : decode (ab_code (zx σ n0 bf).1 4018) 37 = .ok (.invokevirtual 29, 3) := zd zm_4018 (by decide +kernel)
theorem d_4018_40 {σ : Nat → Nat} {n0 : Nat} {bf : ab_B} : decode (ab_code (zx σ n0 bf).1 4018) 40 = .ok (.aload_n 1, 1) := zd zm_4018 (by decide +kernel)
theorem d_4018_41 {σ : Nat → Nat} {n0 : Nat} {bf : ab_B} : decode (ab_code (zx σ n0 bf).1 4018) 41 = .ok (.areturn, 1) := zd zm_4018 (by decide +kernel)
theorem d_4018_42 {σ : Nat → Nat} {n0 : Nat} {bf : ab_B} : decode (ab_code (zx σ n0 bf).1 4018) 42 = .ok (.aload_n 0, 1) := zd zm_4018 (by decide +kernel)
theorem d_4018_43 {σ : Nat → Nat} {n0 : Nat} {bf : ab_B} : decode (ab_code (zx σ n0 bf).1 4018) 43 = .ok (.getfield 5, 3) := zd zm_4018 (by decide +kernel)
theorem d_4018_46 {σ : Nat → Nat} {n0 : Nat} {bf : ab_B} : decode (ab_code (zx σ n0 bf).1 4018) 46 = .ok (.getfield 231, 3) := zd zm_4018 (by decide +kernel)
theorem d_4018_49 {σ : Nat → Nat} {n0 : Nat} {bf : ab_B} : decode (ab_code (zx σ n0 bf).1 4018) 49 = .ok (.iconst 2, 1) := zd zm_4018 (by decide +kernel)
theorem d_4018_50 {σ : Nat → Nat} {n0 : Nat} {bf : ab_B} : decode (ab_code (zx σ n0 bf).1 4018) 50 = .ok (.if_icmp .ne 8, 3) := zd zm_4018 (by decide +kernel)
theorem d_4018_53 {σ : Nat → Nat} {n0 : Nat} {bf : ab_B} : decode (ab_code (zx σ n0 bf).1 4018) 53 = .ok (.aload_n 0, 1) := zd zm_4018 (by decide +kernel)
theorem d_4018_54 {σ : Nat → Nat} {n0 : Nat} {bf : ab_B} : decode (ab_code (zx σ n0 bf).1 4018) 54 = .ok (.invokevirtual 613, 3) := zd zm_4018 (by decide +kernel)
theorem d_4018_57 {σ : Nat → Nat} {n0 : Nat} {bf : ab_B} : decode (ab_code (zx σ n0 bf).1 4018) 57 = .ok (.areturn, 1) := zd zm_4018 (by decide +kernel)
theorem d_4018_58 {σ : Nat → Nat} {n0 : Nat} {bf : ab_B} : decode (ab_code (zx σ n0 bf).1 4018) 58 = .ok (.aload_n 0, 1) := zd zm_4018 (by decide +kernel)
theorem d_4018_59 {σ : Nat → Nat} {n0 : Nat} {bf : ab_B} : decode (ab_code (zx σ n0 bf).1 4018) 59 = .ok (.getfield 5, 3) := zd zm_4018 (by decide +kernel)
theorem d_4018_62 {σ : Nat → Nat} {n0 : Nat} {bf : ab_B} : decode (ab_code (zx σ n0 bf).1 4018) 62 = .ok (.bipush 27, 2) := zd zm_4018 (by decide +kernel)
theorem d_4018_64 {σ : Nat → Nat} {n0 : Nat} {bf : ab_B} : decode (ab_code (zx σ n0 bf).1 4018) 64 = .ok (.invokevirtual 33, 3) := zd zm_4018 (by decide +kernel)
theorem d_4018_67 {σ : Nat → Nat} {n0 : Nat} {bf : ab_B} : decode (ab_code (zx σ n0 bf).1 4018) 67 = .ok (.ifCond .eq 30, 3) := zd zm_4018 (by decide +kernel)
theorem d_4018_70 {σ : Nat → Nat} {n0 : Nat} {bf : ab_B} : decode (ab_code (zx σ n0 bf).1 4018) 70 = .ok (.aload_n 0, 1) := zd zm_4018 (by decide +kernel)
theorem d_4018_71 {σ : Nat → Nat} {n0 : Nat} {bf : ab_B} : decode (ab_code (zx σ n0 bf).1 4018) 71 = .ok (.bipush 12, 2) := zd zm_4018 (by decide +kernel)
theorem d_4018_73 {σ : Nat → Nat} {n0 : Nat} {bf : ab_B} : decode (ab_code (zx σ n0 bf).1 4018) 73 = .ok (.aload_n 0, 1) := zd zm_4018 (by decide +kernel)
theorem d_4018_74 {σ : Nat → Nat} {n0 : Nat} {bf : ab_B} : decode (ab_code (zx σ n0 bf).1 4018) 74 = .ok (.getfield 5, 3) := zd zm_4018 (by decide +kernel)
theorem d_4018_77 {σ : Nat → Nat} {n0 : Nat} {bf : ab_B} : decode (ab_code (zx σ n0 bf).1 4018) 77 = .ok (.getfield 11, 3) := zd zm_4018 (by decide +kernel)
theorem d_4018_80 {σ : Nat → Nat} {n0 : Nat} {bf : ab_B} : decode (ab_code (zx σ n0 bf).1 4018) 80 = .ok (.aload_n 0, 1) := zd zm_4018 (by decide +kernel)
theorem d_4018_81 {σ : Nat → Nat} {n0 : Nat} {bf : ab_B} : decode (ab_code (zx σ n0 bf).1 4018) 81 = .ok (.getfield 159, 3) := zd zm_4018 (by decide +kernel)
theorem d_4018_84 {σ : Nat → Nat} {n0 : Nat} {bf : ab_B} : decode (ab_code (zx σ n0 bf).1 4018) 84 = .ok (.invokevirtual 572, 3) := zd zm_4018 (by decide +kernel)
theorem d_4018_87 {σ : Nat → Nat} {n0 : Nat} {bf : ab_B} : decode (ab_code (zx σ n0 bf).1 4018) 87 = .ok (.astore_n 1, 1) := zd zm_4018 (by decide +kernel)
theorem d_4018_88 {σ : Nat → Nat} {n0 : Nat} {bf : ab_B} : decode (ab_code (zx σ n0 bf).1 4018) 88 = .ok (.aload_n 0, 1) := zd zm_4018 (by decide +kernel)
theorem d_4018_89 {σ : Nat → Nat} {n0 : Nat} {bf : ab_B} : decode (ab_code (zx σ n0 bf).1 4018) 89 = .ok (.getfield 5, 3) := zd zm_4018 (by decide +kernel)
theorem d_4018_92 {σ : Nat → Nat} {n0 : Nat} {bf : ab_B} : decode (ab_code (zx σ n0 bf).1 4018) 92 = .ok (.invokevirtual 29, 3) := zd zm_4018 (by decide +kernel)
theorem d_4018_95 {σ : Nat → Nat} {n0 : Nat} {bf : ab_B} : decode (ab_code (zx σ n0 bf).1 4018) 95 = .ok (.aload_n 1, 1) := zd zm_4018 (by decide +kernel)
theorem d_4018_96 {σ : Nat → Nat} {n0 : Nat} {bf : ab_B} : decode (ab_code (zx σ n0 bf).1 4018) 96 = .ok (.areturn, 1) := zd zm_4018 (by decide +kernel)
theorem d_4018_97 {σ : Nat → Nat} {n0 : Nat} {bf : ab_B} : decode (ab_code (zx σ n0 bf).1 4018) 97 = .ok (.aload_n 0, 1) := zd zm_4018 (by decide +kernel)
theorem d_4018_98 {σ : Nat → Nat} {n0 : Nat} {bf : ab_B} : decode (ab_code (zx σ n0 bf).1 4018) 98 = .ok (.getfield 5, 3) := zd zm_4018 (by decide +kernel)
theorem d_4018_101 {σ : Nat → Nat} {n0 : Nat} {bf : ab_B} : decode (ab_code (zx σ n0 bf).1 4018) 101 = .ok (.bipush 32, 2) := zd zm_4018 (by decide +kernel)
theorem d_4018_103 {σ : Nat → Nat} {n0 : Nat} {bf : ab_B} : decode (ab_code (zx σ n0 bf).1 4018) 103 = .ok (.invokevirtual 33, 3) := zd zm_4018 (by decide +kernel)
theorem d_4018_106 {σ : Nat → Nat} {n0 : Nat} {bf : ab_B} : decode (ab_code (zx σ n0 bf).1 4018) 106 = .ok (.ifCond .eq 82, 3) := zd zm_4018 (by decide +kernel)
theorem d_4018_109 {σ : Nat → Nat} {n0 : Nat} {bf : ab_B} : decode (ab_code (zx σ n0 bf).1 4018) 109 = .ok (.aload_n 0, 1) := zd zm_4018 (by decide +kernel)
theorem d_4018_110 {σ : Nat → Nat} {n0 : Nat} {bf : ab_B} : decode (ab_code (zx σ n0 bf).1 4018) 110 = .ok (.invokevirtual 357, 3) := zd zm_4018 (by decide +kernel)
theorem d_4018_113 {σ : Nat → Nat} {n0 : Nat} {bf : ab_B} : decode (ab_code (zx σ n0 bf).1 4018) 113 = .ok (.aload_n 0, 1) := zd zm_4018 (by decide +kernel)
theorem d_4018_114 {σ : Nat → Nat} {n0 : Nat} {bf : ab_B} : decode (ab_code (zx σ n0 bf).1 4018) 114 = .ok (.bipush 7, 2) := zd zm_4018 (by decide +kernel)
theorem d_4018_116 {σ : Nat → Nat} {n0 : Nat} {bf : ab_B} : decode (ab_code (zx σ n0 bf).1 4018) 116 = .ok (.aload_n 0, 1) := zd zm_4018 (by decide +kernel)
theorem d_4018_117 {σ : Nat → Nat} {n0 : Nat} {bf : ab_B} : decode (ab_code (zx σ n0 bf).1 4018) 117 = .ok (.getfield 5, 3) := zd zm_4018 (by decide +kernel)
theorem d_4018_120 {σ : Nat → Nat} {n0 : Nat} {bf : ab_B} : decode (ab_code (zx σ n0 bf).1 4018) 120 = .ok (.getfield 11, 3) := zd zm_4018 (by decide +kernel)
theorem d_4018_123 {σ : Nat → Nat} {n0 : Nat} {bf : ab_B} : decode (ab_code (zx σ n0 bf).1 4018) 123 = .ok (.aload_n 0, 1) := zd zm_4018 (by decide +kernel)
theorem d_4018_124 {σ : Nat → Nat} {n0 : Nat} {bf : ab_B} : decode (ab_code (zx σ n0 bf).1 4018) 124 = .ok (.getfield 150, 3) := zd zm_4018 (by decide +kernel)
theorem d_4018_127 {σ : Nat → Nat} {n0 : Nat} {bf : ab_B} : decode (ab_code (zx σ n0 bf).1 4018) 127 = .ok (.invokevirtual 572, 3) := zd zm_4018 (by decide +kernel)
theorem d_4018_130 {σ : Nat → Nat} {n0 : Nat} {bf : ab_B} : decode (ab_code (zx σ n0 bf).1 4018) 130 = .ok (.astore_n 1, 1) := zd zm_4018 (by decide +kernel)
theorem d_4018_131 {σ : Nat → Nat} {n0 : Nat} {bf : ab_B} : decode (ab_code (zx σ n0 bf).1 4018) 131 = .ok (.aload_n 1, 1) := zd zm_4018 (by decide +kernel)
theorem d_4018_132 {σ : Nat → Nat} {n0 : Nat} {bf : ab_B} : decode (ab_code (zx σ n0 bf).1 4018) 132 = .ok (.sipush 1032, 3) := zd zm_4018 (by decide +kernel)
theorem d_4018_135 {σ : Nat → Nat} {n0 : Nat} {bf : ab_B} : decode (ab_code (zx σ n0 bf).1 4018) 135 = .ok (.putfield 542, 3) := zd zm_4018 (by decide +kernel)
theorem d_4018_138 {σ : Nat → Nat} {n0 : Nat} {bf : ab_B} : decode (ab_code (zx σ n0 bf).1 4018) 138 = .ok (.aload_n 0, 1) := zd zm_4018 (by decide +kernel)
theorem d_4018_139 {σ : Nat → Nat} {n0 : Nat} {bf : ab_B} : decode (ab_code (zx σ n0 bf).1 4018) 139 = .ok (.getfield 5, 3) := zd zm_4018 (by decide +kernel)
theorem d_4018_142 {σ : Nat → Nat} {n0 : Nat} {bf : ab_B} : decode (ab_code (zx σ n0 bf).1 4018) 142 = .ok (.invokevirtual 29, 3) := zd zm_4018 (by decide +kernel)
theorem d_4018_145 {σ : Nat → Nat} {n0 : Nat} {bf : ab_B} : decode (ab_code (zx σ n0 bf).1 4018) 145 = .ok (.aload_n 1, 1) := zd zm_4018 (by decide +kernel)
theorem d_4018_146 {σ : Nat → Nat} {n0 : Nat} {bf : ab_B} : decode (ab_code (zx σ n0 bf).1 4018) 146 = .ok (.aload_n 0, 1) := zd zm_4018 (by decide +kernel)
theorem d_4018_147 {σ : Nat → Nat} {n0 : Nat} {bf : ab_B} : decode (ab_code (zx σ n0 bf).1 4018) 147 = .ok (.invokevirtual 608, 3) := zd zm_4018 (by decide +kernel)
theorem d_4018_150 {σ : Nat → Nat} {n0 : Nat} {bf : ab_B} : decode (ab_code (zx σ n0 bf).1 4018) 150 = .ok (.putfield 539, 3) := zd zm_4018 (by decide +kernel)
theorem d_4018_153 {σ : Nat → Nat} {n0 : Nat} {bf : ab_B} : decode (ab_code (zx σ n0 bf).1 4018) 153 = .ok (.aload_n 1, 1) := zd zm_4018 (by decide +kernel)
theorem d_4018_154 {σ : Nat → Nat} {n0 : Nat} {bf : ab_B} : decode (ab_code (zx σ n0 bf).1 4018) 154 = .ok (.getfield 539, 3) := zd zm_4018 (by decide +kernel)
theorem d_4018_157 {σ : Nat → Nat} {n0 : Nat} {bf : ab_B} : decode (ab_code (zx σ n0 bf).1 4018) 157 = .ok (.getfield 297, 3) := zd zm_4018 (by decide +kernel)
theorem d_4018_160 {σ : Nat → Nat} {n0 : Nat} {bf : ab_B} : decode (ab_code (zx σ n0 bf).1 4018) 160 = .ok (.invokevirtual 450, 3) := zd zm_4018 (by decide +kernel)
theorem d_4018_163 {σ : Nat → Nat} {n0 : Nat} {bf : ab_B} : decode (ab_code (zx σ n0 bf).1 4018) 163 = .ok (.aload_n 0, 1) := zd zm_4018 (by decide +kernel)
theorem d_4018_164 {σ : Nat → Nat} {n0 : Nat} {bf : ab_B} : decode (ab_code (zx σ n0 bf).1 4018) 164 = .ok (.getfield 150, 3) := zd zm_4018 (by decide +kernel)
theorem d_4018_167 {σ : Nat → Nat} {n0 : Nat} {bf : ab_B} : decode (ab_code (zx σ n0 bf).1 4018) 167 = .ok (.if_acmp .eq 9, 3) := zd zm_4018 (by decide +kernel)
theorem d_4018_170 {σ : Nat → Nat} {n0 : Nat} {bf : ab_B} : decode (ab_code (zx σ n0 bf).1 4018) 170 = .ok (.aload_n 0, 1) := zd zm_4018 (by decide +kernel)
theorem d_4018_171 {σ : Nat → Nat} {n0 : Nat} {bf : ab_B} : decode (ab_code (zx σ n0 bf).1 4018) 171 = .ok (.iconst 5, 1) := zd zm_4018 (by decide +kernel)
theorem d_4018_172 {σ : Nat → Nat} {n0 : Nat} {bf : ab_B} : decode (ab_code (zx σ n0 bf).1 4018) 172 = .ok (.invokevirtual 25, 3) := zd zm_4018 (by decide +kernel)
theorem d_4018_175 {σ : Nat → Nat} {n0 : Nat} {bf : ab_B} : decode (ab_code (zx σ n0 bf).1 4018) 175 = .ok (.athrow, 1) := zd zm_4018 (by decide +kernel)
theorem d_4018_176 {σ : Nat → Nat} {n0 : Nat} {bf : ab_B} : decode (ab_code (zx σ n0 bf).1 4018) 176 = .ok (.aload_n 0, 1) := zd zm_4018 (by decide +kernel)
theorem d_4018_177 {σ : Nat → Nat} {n0 : Nat} {bf : ab_B} : decode (ab_code (zx σ n0 bf).1 4018) 177 = .ok (.dup, 1) := zd zm_4018 (by decide +kernel)
theorem d_4018_178 {σ : Nat → Nat} {n0 : Nat} {bf : ab_B} : decode (ab_code (zx σ n0 bf).1 4018) 178 = .ok (.getfield 43, 3) := zd zm_4018 (by decide +kernel)
theorem d_4018_181 {σ : Nat → Nat} {n0 : Nat} {bf : ab_B} : decode (ab_code (zx σ n0 bf).1 4018) 181 = .ok (.iconst 1, 1) := zd zm_4018 (by decide +kernel)
theorem d_4018_182 {σ : Nat → Nat} {n0 : Nat} {bf : ab_B} : decode (ab_code (zx σ n0 bf).1 4018) 182 = .ok (.isub, 1) := zd zm_4018 (by decide +kernel)
theorem d_4018_183 {σ : Nat → Nat} {n0 : Nat} {bf : ab_B} : decode (ab_code (zx σ n0 bf).1 4018) 183 = .ok (.putfield 43, 3) := zd zm_4018 (by decide +kernel)
theorem d_4018_186 {σ : Nat → Nat} {n0 : Nat} {bf : ab_B} : decode (ab_code (zx σ n0 bf).1 4018) 186 = .ok (.aload_n 1, 1) := zd zm_4018 (by decide +kernel)
theorem d_4018_187 {σ : Nat → Nat} {n0 : Nat} {bf : ab_B} : decode (ab_code (zx σ n0 bf).1 4018) 187 = .ok (.areturn, 1) := zd zm_4018 (by decide +kernel)
theorem d_4018_188 {σ : Nat → Nat} {n0 : Nat} {bf : ab_B} : decode (ab_code (zx σ n0 bf).1 4018) 188 = .ok (.aload_n 0, 1) := zd zm_4018 (by decide +kernel)
theorem d_4018_189 {σ : Nat → Nat} {n0 : Nat} {bf : ab_B} : decode (ab_code (zx σ n0 bf).1 4018) 189 = .ok (.getfield 5, 3) := zd zm_4018 (by decide +kernel)
theorem d_4018_192 {σ : Nat → Nat} {n0 : Nat} {bf : ab_B} : decode (ab_code (zx σ n0 bf).1 4018) 192 = .ok (.bipush 40, 2) := zd zm_4018 (by decide +kernel)
theorem d_4018_194 {σ : Nat → Nat} {n0 : Nat} {bf : ab_B} : decode (ab_code (zx σ n0 bf).1 4018) 194 = .ok (.invokevirtual 21, 3) := zd zm_4018 (by decide +kernel)
theorem d_4018_197 {σ : Nat → Nat} {n0 : Nat} {bf : ab_B} : decode (ab_code (zx σ n0 bf).1 4018) 197 = .ok (.ifCond .eq 41, 3) := zd zm_4018 (by decide +kernel)
theorem d_4018_200 {σ : Nat → Nat} {n0 : Nat} {bf : ab_B} : decode (ab_code (zx σ n0 bf).1 4018) 200 = .ok (.aload_n 0, 1) := zd zm_4018 (by decide +kernel)
theorem d_4018_201 {σ : Nat → Nat} {n0 : Nat} {bf : ab_B} : decode (ab_code (zx σ n0 bf).1 4018) 201 = .ok (.invokevirtual 357, 3) := zd zm_4018 (by decide +kernel)
theorem d_4018_204 {σ : Nat → Nat} {n0 : Nat} {bf : ab_B} : decode (ab_code (zx σ n0 bf).1 4018) 204 = .ok (.aload_n 0, 1) := zd zm_4018 (by decide +kernel)
theorem d_4018_205 {σ : Nat → Nat} {n0 : Nat} {bf : ab_B} : decode (ab_code (zx σ n0 bf).1 4018) 205 = .ok (.getfield 5, 3) := zd zm_4018 (by decide +kernel)
theorem d_4018_208 {σ : Nat → Nat} {n0 : Nat} {bf : ab_B} : decode (ab_code (zx σ n0 bf).1 4018) 208 = .ok (.invokevirtual 29, 3) := zd zm_4018 (by decide +kernel)
theorem d_4018_211 {σ : Nat → Nat} {n0 : Nat} {bf : ab_B} : decode (ab_code (zx σ n0 bf).1 4018) 211 = .ok (.aload_n 0, 1) := zd zm_4018 (by decide +kernel)
theorem d_4018_212 {σ : Nat → Nat} {n0 : Nat} {bf : ab_B} : decode (ab_code (zx σ n0 bf).1 4018) 212 = .ok (.invokevirtual 569, 3) := zd zm_4018 (by decide +kernel)
theorem d_4018_215 {σ : Nat → Nat} {n0 : Nat} {bf : ab_B} : decode (ab_code (zx σ n0 bf).1 4018) 215 = .ok (.astore_n 1, 1) := zd zm_4018 (by decide +kernel)
theorem d_4018_216 {σ : Nat → Nat} {n0 : Nat} {bf : ab_B} : decode (ab_code (zx σ n0 bf).1 4018) 216 = .ok (.aload_n 0, 1) := zd zm_4018 (by decide +kernel)
theorem d_4018_217 {σ : Nat → Nat} {n0 : Nat} {bf : ab_B} : decode (ab_code (zx σ n0 bf).1 4018) 217 = .ok (.bipush 41, 2) := zd zm_4018 (by decide +kernel)
theorem d_4018_219 {σ : Nat → Nat} {n0 : Nat} {bf : ab_B} : decode (ab_code (zx σ n0 bf).1 4018) 219 = .ok (.invokevirtual 224, 3) := zd zm_4018 (by decide +kernel)
theorem d_4018_222 {σ : Nat → Nat} {n0 : Nat} {bf : ab_B} : decode (ab_code (zx σ n0 bf).1 4018) 222 = .ok (.aload_n 0, 1) := zd zm_4018 (by decide +kernel)
theorem d_4018_223 {σ : Nat → Nat} {n0 : Nat} {bf : ab_B} : decode (ab_code (zx σ n0 bf).1 4018) 223 = .ok (.dup, 1) := zd zm_4018 (by decide +kernel)
theorem d_4018_224 {σ : Nat → Nat} {n0 : Nat} {bf : ab_B} : decode (ab_code (zx σ n0 bf).1 4018) 224 = .ok (.getfield 43, 3) := zd zm_4018 (by decide +kernel)
theorem d_4018_227 {σ : Nat → Nat} {n0 : Nat} {bf : ab_B} : decode (ab_code (zx σ n0 bf).1 4018) 227 = .ok (.iconst 1, 1) := zd zm_4018 (by decide +kernel)
theorem d_4018_228 {σ : Nat → Nat} {n0 : Nat} {bf : ab_B} : decode (ab_code (zx σ n0 bf).1 4018) 228 = .ok (.isub, 1) := zd zm_4018 (by decide +kernel)
theorem d_4018_229 {σ : Nat → Nat} {n0 : Nat} {bf : ab_B} : decode (ab_code (zx σ n0 bf).1 4018) 229 = .ok (.putfield 43, 3) := zd zm_4018 (by decide +kernel)
theorem d_4018_232 {σ : Nat → Nat} {n0 : Nat} {bf : ab_B} : decode (ab_code (zx σ n0 bf).1 4018) 232 = .ok (.aload_n 0, 1) := zd zm_4018 (by decide +kernel)
theorem d_4018_233 {σ : Nat → Nat} {n0 : Nat} {bf : ab_B} : decode (ab_code (zx σ n0 bf).1 4018) 233 = .ok (.aload_n 1, 1) := zd zm_4018 (by decide +kernel)
theorem d_4018_234 {σ : Nat → Nat} {n0 : Nat} {bf : ab_B} : decode (ab_code (zx σ n0 bf).1 4018) 234 = .ok (.invokevirtual 616, 3) := zd zm_4018 (by decide +kernel)
theorem d_4018_237 {σ : Nat → Nat} {n0 : Nat} {bf : ab_B} : decode (ab_code (zx σ n0 bf).1 4018) 237 = .ok (.areturn, 1) := zd zm_4018 (by decide +kernel)
theorem d_4018_238 {σ : Nat → Nat} {n0 : Nat} {bf : ab_B} : decode (ab_code (zx σ n0 bf).1 4018) 238 = .ok (.aload_n 0, 1) := zd zm_4018 (by decide +kernel)
theorem d_4018_239 {σ : Nat → Nat} {n0 : Nat} {bf : ab_B} : decode (ab_code (zx σ n0 bf).1 4018) 239 = .ok (.getfield 5, 3) := zd zm_4018 (by decide +kernel)
theorem d_4018_242 {σ : Nat → Nat} {n0 : Nat} {bf : ab_B} : decode (ab_code (zx σ n0 bf).1 4018) 242 = .ok (.bipush 91, 2) := zd zm_4018 (by decide +kernel)
theorem d_4018_244 {σ : Nat → Nat} {n0 : Nat} {bf : ab_B} : decode (ab_code (zx σ n0 bf).1 4018) 244 = .ok (.invokevirtual 21, 3) := zd zm_4018 (by decide +kernel)
theorem d_4018_247 {σ : Nat → Nat} {n0 : Nat} {bf : ab_B} : decode (ab_code (zx σ n0 bf).1 4018) 247 = .ok (.ifCond .eq 8, 3) := zd zm_4018 (by decide +kernel)
theorem d_4018_250 {σ : Nat → Nat} {n0 : Nat} {bf : ab_B} : decode (ab_code (zx σ n0 bf).1 4018) 250 = .ok (.aload_n 0, 1) := zd zm_4018 (by decide +kernel)
theorem d_4018_251 {σ : Nat → Nat} {n0 : Nat} {bf : ab_B} : decode (ab_code (zx σ n0 bf).1 4018) 251 = .ok (.invokevirtual 619, 3) := zd zm_4018 (by decide +kernel)
theorem d_4018_254 {σ : Nat → Nat} {n0 : Nat} {bf : ab_B} : decode (ab_code (zx σ n0 bf).1 4018) 254 = .ok (.areturn, 1) := zd zm_4018 (by decide +kernel)
theorem d_4018_255 {σ : Nat → Nat} {n0 : Nat} {bf : ab_B} : decode (ab_code (zx σ n0 bf).1 4018) 255 = .ok (.aload_n 0, 1) := zd zm_4018 (by decide +kernel)
theorem d_4018_256 {σ : Nat → Nat} {n0 : Nat} {bf : ab_B} : decode (ab_code (zx σ n0 bf).1 4018) 256 = .ok (.getfield 5, 3) := zd zm_4018 (by decide +kernel)
theorem d_4018_259 {σ : Nat → Nat} {n0 : Nat} {bf : ab_B} : decode (ab_code (zx σ n0 bf).1 4018) 259 = .ok (.invokevirtual 36, 3) := zd zm_4018 (by decide +kernel)
theorem d_4018_262 {σ : Nat → Nat} {n0 : Nat} {bf : ab_B} : decode (ab_code (zx σ n0 bf).1 4018) 262 = .ok (.ifCond .ne 9, 3) := zd zm_4018 (by decide +kernel)
theorem d_4018_265 {σ : Nat → Nat} {n0 : Nat} {bf : ab_B} : decode (ab_code (zx σ n0 bf).1 4018) 265 = .ok (.aload_n 0, 1) := zd zm_4018 (by decide +kernel)
theorem d_4018_266 {σ : Nat → Nat} {n0 : Nat} {bf : ab_B} : decode (ab_code (zx σ n0 bf).1 4018) 266 = .ok (.iconst 2, 1) := zd zm_4018 (by decide +kernel)
theorem d_4018_267 {σ : Nat → Nat} {n0 : Nat} {bf : ab_B} : decode (ab_code (zx σ n0 bf).1 4018) 267 = .ok (.invokevirtual 25, 3) := zd zm_4018 (by decide +kernel)
theorem d_4018_270 {σ : Nat → Nat} {n0 : Nat} {bf : ab_B} : decode (ab_code (zx σ n0 bf).1 4018) 270 = .ok (.athrow, 1) := zd zm_4018 (by decide +kernel)
theorem d_4018_271 {σ : Nat → Nat} {n0 : Nat} {bf : ab_B} : decode (ab_code (zx σ n0 bf).1 4018) 271 = .ok (.aload_n 0, 1) := zd zm_4018 (by decide +kernel)
theorem d_4018_272 {σ : Nat → Nat} {n0 : Nat} {bf : ab_B} : decode (ab_code (zx σ n0 bf).1 4018) 272 = .ok (.invokevirtual 622, 3) := zd zm_4018 (by decide +kernel)
theorem d_4018_275 {σ : Nat → Nat} {n0 : Nat} {bf : ab_B} : decode (ab_code (zx σ n0 bf).1 4018) 275 = .ok (.areturn, 1) := zd zm_4018 (by decide +kernel)
def w_X5_factor_40 (X : zs_X) (d : Nat) (p1 : Option Nat) (S : zs_T) (Q : zs_Q) : Prop :=
  (Q (.returned (some (va_rf p1))) S)
theorem u_X5_factor_40 {σ : Nat → Nat} {n0 : Nat} {bf : ab_B} {d : Nat} {p1 : Option Nat} {S : zs_T} {Q : zs_Q} (hB : zt_B bf) (h : w_X5_factor_40 (zx σ n0 bf) d p1 S Q) : zs_U (zx σ n0 bf) d 4018 40 [(1, va_rf p1)] [] S Q := by
  unfold w_X5_factor_40 at h
  refine zu_aload_n d_4018_40 rfl (zs_rr _) ?_
  exact zu_aret d_4018_41 zr_4018 (zs_rr _) h
def w_X5_factor_88 (X : zs_X) (d : Nat) (p0 : Nat) (p1 : Option Nat) (S : zs_T) (Q : zs_Q) : Prop :=
  (zs_K S p0 = some (.inl 4) ∧ ∃ b2, (zs_R S 4000 p0) = some b2 ∧ zs_K S b2 = some (.inl 5) ∧ zs_C X d 5004 [.ref b2] S (zs_kV (fun S5 => (Q (.returned (some (va_rf p1))) S5)) Q))
theorem u_X5_factor_88 {σ : Nat → Nat} {n0 : Nat} {bf : ab_B} {d : Nat} {p0 : Nat} {p1 : Option Nat} {S : zs_T} {Q : zs_Q} (hB : zt_B bf) (h : w_X5_factor_88 (zx σ n0 bf) d p0 p1 S Q) : zs_U (zx σ n0 bf) d 4018 88 [(0, .ref p0), (1, va_rf p1)] [] S Q := by
  unfold w_X5_factor_88 at h
  refine zu_aload_n d_4018_88 rfl (zs_ra _) ?_
  obtain ⟨k1, h⟩ := h
  refine zg_4_5 rfl d_4018_89 k1 ?_
  obtain ⟨b2, e3, h⟩ := h
  refine zs_stk0 (zs_rfe e3) ?_
  obtain ⟨k4, h⟩ := h
  refine zc_4_29  hB rfl k4 d_4018_92 (Nat.le_of_ble_eq_true rfl) h (fun S5 h => ?_)
  refine zu_aload_n d_4018_95 rfl (zs_rr _) ?_
  exact zu_aret d_4018_96 zr_4018 (zs_rr _) h
def w_X5_factor_186 (X : zs_X) (d : Nat) (p1 : Option Nat) (S : zs_T) (Q : zs_Q) : Prop :=
  (Q (.returned (some (va_rf p1))) S)
theorem u_X5_factor_186 {σ : Nat → Nat} {n0 : Nat} {bf : ab_B} {d : Nat} {p1 : Option Nat} {S : zs_T} {Q : zs_Q} (hB : zt_B bf) (h : w_X5_factor_186 (zx σ n0 bf) d p1 S Q) : zs_U (zx σ n0 bf) d 4018 186 [(1, va_rf p1)] [] S Q := by
  unfold w_X5_factor_186 at h
  refine zu_aload_n d_4018_186 rfl (zs_rr _) ?_
  exact zu_aret d_4018_187 zr_4018 (zs_rr _) h
def w_X5_factor_145 (X : zs_X) (d : Nat) (p0 : Nat) (p1 : Option Nat) (S : zs_T) (Q : zs_Q) : Prop :=
  (zs_K S p0 = some (.inl 4) ∧ zs_C X d 4018 [.ref p0] S (zs_kR (fun v3 S2 => (∃ b4, p1 = some b4 ∧ zs_K S2 b4 = some (.inl 11) ∧ ab_n0 X.1 ≤ b4 ∧ ∀ S8, S8 = zs_sR S2 11005 b4 v3 → ∃ b11, (zs_R S8 11005 b4) = some b11 ∧ zs_K S2 b11 = some (.inl 11) ∧ ∃ b14, (zs_R S8 11002 b11) = some b14 ∧ zs_K S2 b14 = some (.inl 6) ∧ zs_C X d 6001 [.ref b14] S8 (zs_kR (fun v18 S17 => (zs_K S17 p0 = some (.inl 4) ∧ ((v18 = (zs_R S17 4003 p0) → (ab_n0 X.1 ≤ p0 ∧ ∀ S22, S22 = zs_sI S17 4011 p0 ((zs_I S17 4011 p0) - (1 : Int32)) → w_X5_factor_186 X d p1 S22 Q)) ∧ (¬ (v18 = (zs_R S17 4003 p0)) → (zs_C X d 4006 [.ref p0, .int (5 : Int32)] S17 (zs_kR (fun v26 S25 => (∃ b27, v26 = some b27 ∧ Q (.threw b27) S25)) Q)))))) Q))) Q))
theorem u_X5_factor_145 {σ : Nat → Nat} {n0 : Nat} {bf : ab_B} {d : Nat} {p0 : Nat} {p1 : Option Nat} {S : zs_T} {Q : zs_Q} (hB : zt_B bf) (h : w_X5_factor_145 (zx σ n0 bf) d p0 p1 S Q) : zs_U (zx σ n0 bf) d 4018 145 [(0, .ref p0), (1, va_rf p1)] [] S Q := by
  unfold w_X5_factor_145 at h
  refine zu_aload_n d_4018_145 rfl (zs_rr _) ?_
  refine zu_aload_n d_4018_146 rfl (zs_ra _) ?_
  obtain ⟨k1, h⟩ := h
  refine zc_4_608  hB rfl k1 d_4018_147 (by simp only [List.map_cons, List.map_nil, List.sum_cons, List.sum_nil, zs_cat, zs_cI, zs_cJ, zs_cA]; exact Nat.le_of_ble_eq_true rfl) h (fun v3 S2 h => ?_)
  obtain ⟨b4, e5, h⟩ := h
  refine zs_stk1 (zs_rfe e5) ?_
  obtain ⟨k6, h⟩ := h
  obtain ⟨k7, h⟩ := h
  refine zp_4_539 (v := v3) rfl d_4018_150 k6 k7 ?_
  generalize e9 : zs_sR S2 11005 b4 v3 = S8
  have h := h S8 e9.symm
  have K10 : ∀ b, zs_K S8 b = zs_K S2 b := zs_Kt e9 (zs_KsR _ _ _ _) (fun _ => rfl)
  refine zu_aload_n d_4018_153 rfl (zs_rr _) ?_
  refine zs_stk0 (zs_rfe e5) ?_
  refine zg_4_539 rfl d_4018_154 ((K10 _).trans k6) ?_
  obtain ⟨b11, e12, h⟩ := h
  refine zs_stk0 (zs_rfe e12) ?_
  obtain ⟨k13, h⟩ := h
  refine zg_4_297 rfl d_4018_157 ((K10 _).trans k13) ?_
  obtain ⟨b14, e15, h⟩ := h
  refine zs_stk0 (zs_rfe e15) ?_
  obtain ⟨k16, h⟩ := h
  refine zc_4_450  hB rfl ((K10 _).trans k16) d_4018_160 (Nat.le_of_ble_eq_true rfl) h (fun v18 S17 h => ?_)
  refine zu_aload_n d_4018_163 rfl (zs_ra _) ?_
  obtain ⟨k19, h⟩ := h
  refine zg_4_150 rfl d_4018_164 k19 ?_
  refine zu_acmpeq (u := v18) (w := (zs_R S17 4003 p0)) (t := 176) d_4018_167 rfl rfl rfl (fun c20 => ?_) (fun c20 => ?_)
  · have h := h.1 c20
    refine zu_aload_n d_4018_176 rfl (zs_ra _) ?_
    refine zu_dup d_4018_177 rfl ?_
    refine zg_4_43 rfl d_4018_178 k19 ?_
    refine zu_iconst d_4018_181 zi_1 ?_
    refine zu_stk d_4018_182 rfl rfl ?_
    obtain ⟨k21, h⟩ := h
    refine zp_4_43 (v := ((zs_I S17 4011 p0) - (1 : Int32))) rfl d_4018_183 k19 k21 ?_
    generalize e23 : zs_sI S17 4011 p0 ((zs_I S17 4011 p0) - (1 : Int32)) = S22
    have h := h S22 e23.symm
    have K24 : ∀ b, zs_K S22 b = zs_K S17 b := zs_Kt e23 (zs_KsI _ _ _ _) (fun _ => rfl)
    exact (u_X5_factor_186 hB h).weak ⟨rfl, trivial⟩
  · have h := h.2 c20
    refine zu_aload_n d_4018_170 rfl (zs_ra _) ?_
    refine zu_iconst d_4018_171 zi_5 ?_
    refine zc_4_25 (x0 := (5 : Int32)) hB rfl k19 d_4018_172 (Nat.le_of_ble_eq_true rfl) h (fun v26 S25 h => ?_)
    obtain ⟨b27, e28, h⟩ := h
    refine zs_stk0 (zs_rfe e28) ?_
    exact zu_throw d_4018_175 h
def w_X5_factor_109 (X : zs_X) (d : Nat) (p0 : Nat) (S : zs_T) (Q : zs_Q) : Prop :=
  (zs_K S p0 = some (.inl 4) ∧ zs_C X d 4021 [.ref p0] S (zs_kV (fun S2 => (zs_K S2 p0 = some (.inl 4) ∧ ∃ b5, (zs_R S2 4000 p0) = some b5 ∧ zs_K S2 b5 = some (.inl 5) ∧ zs_C X d 4016 [.ref p0, .int (7 : Int32), .int (zs_I S2 5005 b5), va_rf (zs_R S2 4003 p0)] S2 (zs_kR (fun v9 S8 => (∃ b10, v9 = some b10 ∧ zs_K S8 b10 = some (.inl 11) ∧ ab_n0 X.1 ≤ b10 ∧ ∀ S14, S14 = zs_sI S8 11003 b10 (1032 : Int32) → zs_K S8 p0 = some (.inl 4) ∧ ∃ b18, (zs_R S14 4000 p0) = some b18 ∧ zs_K S8 b18 = some (.inl 5) ∧ zs_C X d 5004 [.ref b18] S14 (zs_kV (fun S21 => w_X5_factor_145 X d p0 v9 S21 Q) Q))) Q))) Q))
theorem u_X5_factor_109 {σ : Nat → Nat} {n0 : Nat} {bf : ab_B} {d : Nat} {p0 : Nat} {S : zs_T} {Q : zs_Q} (hB : zt_B bf) (h : w_X5_factor_109 (zx σ n0 bf) d p0 S Q) : zs_U (zx σ n0 bf) d 4018 109 [(0, .ref p0)] [] S Q := by
  unfold w_X5_factor_109 at h
  refine zu_aload_n d_4018_109 rfl (zs_ra _) ?_
  obtain ⟨k1, h⟩ := h
  refine zc_4_357  hB rfl k1 d_4018_110 (Nat.le_of_ble_eq_true rfl) h (fun S2 h => ?_)
  refine zu_aload_n d_4018_113 rfl (zs_ra _) ?_
  refine zu_bipush d_4018_114 zj_7 ?_
  refine zu_aload_n d_4018_116 rfl (zs_ra _) ?_
  obtain ⟨k4, h⟩ := h
  refine zg_4_5 rfl d_4018_117 k4 ?_
  obtain ⟨b5, e6, h⟩ := h
  refine zs_stk0 (zs_rfe e6) ?_
  obtain ⟨k7, h⟩ := h
  refine zg_4_11 rfl d_4018_120 k7 ?_
  refine zu_aload_n d_4018_123 rfl (zs_ra _) ?_
  refine zg_4_150 rfl d_4018_124 k4 ?_
  refine zc_4_572 (x0 := (7 : Int32)) (x1 := (zs_I S2 5005 b5)) (x2 := (zs_R S2 4003 p0)) hB rfl k4 d_4018_127 (Nat.le_of_ble_eq_true rfl) h (fun v9 S8 h => ?_)
  refine zu_astore_n d_4018_130 (zs_rr _) (zs_lt zq_4018 rfl) ?_
  refine zu_aload_n d_4018_131 rfl (zs_rr _) ?_
  refine zu_sipush d_4018_132 zh_1032 ?_
  obtain ⟨b10, e11, h⟩ := h
  refine zs_stk1 (zs_rfe e11) ?_
  obtain ⟨k12, h⟩ := h
  obtain ⟨k13, h⟩ := h
  refine zp_4_542 (v := (1032 : Int32)) rfl d_4018_135 k12 k13 ?_
  generalize e15 : zs_sI S8 11003 b10 (1032 : Int32) = S14
  have h := h S14 e15.symm
  have K16 : ∀ b, zs_K S14 b = zs_K S8 b := zs_Kt e15 (zs_KsI _ _ _ _) (fun _ => rfl)
  refine zu_aload_n d_4018_138 rfl (zs_ra _) ?_
  obtain ⟨k17, h⟩ := h
  refine zg_4_5 rfl d_4018_139 ((K16 _).trans k17) ?_
  obtain ⟨b18, e19, h⟩ := h
  refine zs_stk0 (zs_rfe e19) ?_
  obtain ⟨k20, h⟩ := h
  refine zc_4_29  hB rfl ((K16 _).trans k20) d_4018_142 (Nat.le_of_ble_eq_true rfl) h (fun S21 h => ?_)
  exact (u_X5_factor_145 hB h).weak ⟨rfl, rfl, trivial⟩
def w_X5_factor_222 (X : zs_X) (d : Nat) (p0 : Nat) (p1 : Option Nat) (S : zs_T) (Q : zs_Q) : Prop :=
  (zs_K S p0 = some (.inl 4) ∧ ab_n0 X.1 ≤ p0 ∧ ∀ S3, S3 = zs_sI S 4011 p0 ((zs_I S 4011 p0) - (1 : Int32)) → zs_C X d 4022 [.ref p0, va_rf p1] S3 (zs_kR (fun v7 S6 => (Q (.returned (some (va_rf v7))) S6)) Q))
theorem u_X5_factor_222 {σ : Nat → Nat} {n0 : Nat} {bf : ab_B} {d : Nat} {p0 : Nat} {p1 : Option Nat} {S : zs_T} {Q : zs_Q} (hB : zt_B bf) (h : w_X5_factor_222 (zx σ n0 bf) d p0 p1 S Q) : zs_U (zx σ n0 bf) d 4018 222 [(0, .ref p0), (1, va_rf p1)] [] S Q := by
  unfold w_X5_factor_222 at h
  refine zu_aload_n d_4018_222 rfl (zs_ra _) ?_
  refine zu_dup d_4018_223 rfl ?_
  obtain ⟨k1, h⟩ := h
  refine zg_4_43 rfl d_4018_224 k1 ?_
  refine zu_iconst d_4018_227 zi_1 ?_
  refine zu_stk d_4018_228 rfl rfl ?_
  obtain ⟨k2, h⟩ := h
  refine zp_4_43 (v := ((zs_I S 4011 p0) - (1 : Int32))) rfl d_4018_229 k1 k2 ?_
  generalize e4 : zs_sI S 4011 p0 ((zs_I S 4011 p0) - (1 : Int32)) = S3
  have h := h S3 e4.symm
  have K5 : ∀ b, zs_K S3 b = zs_K S b := zs_Kt e4 (zs_KsI _ _ _ _) (fun _ => rfl)
  refine zu_aload_n d_4018_232 rfl (zs_ra _) ?_
  refine zu_aload_n d_4018_233 rfl (zs_rr _) ?_
  refine zc_4_616 (x0 := p1) hB rfl ((K5 _).trans k1) d_4018_234 (Nat.le_of_ble_eq_true rfl) h (fun v7 S6 h => ?_)
  exact zu_aret d_4018_237 zr_4018 (zs_rr _) h
def w_X5_factor_188 (X : zs_X) (d : Nat) (p0 : Nat) (S : zs_T) (Q : zs_Q) : Prop :=
  (zs_K S p0 = some (.inl 4) ∧ ∃ b2, (zs_R S 4000 p0) = some b2 ∧ zs_K S b2 = some (.inl 5) ∧ zs_C X d 5017 [.ref b2, .int (40 : Int32)] S (zs_kI (fun v6 S5 => (((v6 = 0 → (zs_K S5 p0 = some (.inl 4) ∧ ∃ b9, (zs_R S5 4000 p0) = some b9 ∧ zs_K S5 b9 = some (.inl 5) ∧ zs_C X d 5017 [.ref b9, .int (91 : Int32)] S5 (zs_kI (fun v13 S12 => (((v13 = 0 → (zs_K S12 p0 = some (.inl 4) ∧ ∃ b16, (zs_R S12 4000 p0) = some b16 ∧ zs_K S12 b16 = some (.inl 5) ∧ zs_C X d 5016 [.ref b16] S12 (zs_kI (fun v20 S19 => (((¬ v20 = 0 → (zs_K S19 p0 = some (.inl 4) ∧ zs_C X d 4026 [.ref p0] S19 (zs_kR (fun v24 S23 => (Q (.returned (some (va_rf v24))) S23)) Q))) ∧ (¬ (¬ v20 = 0) → (zs_K S19 p0 = some (.inl 4) ∧ zs_C X d 4006 [.ref p0, .int (2 : Int32)] S19 (zs_kR (fun v27 S26 => (∃ b28, v27 = some b28 ∧ Q (.threw b28) S26)) Q)))))) Q))) ∧ (¬ (v13 = 0) → (zs_K S12 p0 = some (.inl 4) ∧ zs_C X d 4023 [.ref p0] S12 (zs_kR (fun v32 S31 => (Q (.returned (some (va_rf v32))) S31)) Q)))))) Q))) ∧ (¬ (v6 = 0) → (zs_K S5 p0 = some (.inl 4) ∧ zs_C X d 4021 [.ref p0] S5 (zs_kV (fun S34 => (zs_K S34 p0 = some (.inl 4) ∧ ∃ b37, (zs_R S34 4000 p0) = some b37 ∧ zs_K S34 b37 = some (.inl 5) ∧ zs_C X d 5004 [.ref b37] S34 (zs_kV (fun S40 => (zs_K S40 p0 = some (.inl 4) ∧ zs_C X d 4014 [.ref p0] S40 (zs_kR (fun v44 S43 => (zs_K S43 p0 = some (.inl 4) ∧ zs_C X d 4008 [.ref p0, .int (41 : Int32)] S43 (zs_kV (fun S46 => w_X5_factor_222 X d p0 v44 S46 Q) Q))) Q))) Q))) Q)))))) Q))
theorem u_X5_factor_188 {σ : Nat → Nat} {n0 : Nat} {bf : ab_B} {d : Nat} {p0 : Nat} {S : zs_T} {Q : zs_Q} (hB : zt_B bf) (h : w_X5_factor_188 (zx σ n0 bf) d p0 S Q) : zs_U (zx σ n0 bf) d 4018 188 [(0, .ref p0)] [] S Q := by
  unfold w_X5_factor_188 at h
  refine zu_aload_n d_4018_188 rfl (zs_ra _) ?_
  obtain ⟨k1, h⟩ := h
  refine zg_4_5 rfl d_4018_189 k1 ?_
  refine zu_bipush d_4018_192 zj_40 ?_
  obtain ⟨b2, e3, h⟩ := h
  refine zs_stk1 (zs_rfe e3) ?_
  obtain ⟨k4, h⟩ := h
  refine zc_4_21 (x0 := (40 : Int32)) hB rfl k4 d_4018_194 (Nat.le_of_ble_eq_true rfl) h (fun v6 S5 h => ?_)
  refine zu_ifeq (t := 238) d_4018_197 rfl (fun c7 => ?_) (fun c7 => ?_)
  · have h := h.1 c7
    refine zu_aload_n d_4018_238 rfl (zs_ra _) ?_
    obtain ⟨k8, h⟩ := h
    refine zg_4_5 rfl d_4018_239 k8 ?_
    refine zu_bipush d_4018_242 zj_91 ?_
    obtain ⟨b9, e10, h⟩ := h
    refine zs_stk1 (zs_rfe e10) ?_
    obtain ⟨k11, h⟩ := h
    refine zc_4_21 (x0 := (91 : Int32)) hB rfl k11 d_4018_244 (Nat.le_of_ble_eq_true rfl) h (fun v13 S12 h => ?_)
    refine zu_ifeq (t := 255) d_4018_247 rfl (fun c14 => ?_) (fun c14 => ?_)
    · have h := h.1 c14
      refine zu_aload_n d_4018_255 rfl (zs_ra _) ?_
      obtain ⟨k15, h⟩ := h
      refine zg_4_5 rfl d_4018_256 k15 ?_
      obtain ⟨b16, e17, h⟩ := h
      refine zs_stk0 (zs_rfe e17) ?_
      obtain ⟨k18, h⟩ := h
      refine zc_4_36  hB rfl k18 d_4018_259 (Nat.le_of_ble_eq_true rfl) h (fun v20 S19 h => ?_)
      refine zu_ifne (t := 271) d_4018_262 rfl (fun c21 => ?_) (fun c21 => ?_)
      · have h := h.1 c21
        refine zu_aload_n d_4018_271 rfl (zs_ra _) ?_
        obtain ⟨k22, h⟩ := h
        refine zc_4_622  hB rfl k22 d_4018_272 (Nat.le_of_ble_eq_true rfl) h (fun v24 S23 h => ?_)
        exact zu_aret d_4018_275 zr_4018 (zs_rr _) h
      · have h := h.2 c21
        refine zu_aload_n d_4018_265 rfl (zs_ra _) ?_
        refine zu_iconst d_4018_266 zi_2 ?_
        obtain ⟨k25, h⟩ := h
        refine zc_4_25 (x0 := (2 : Int32)) hB rfl k25 d_4018_267 (Nat.le_of_ble_eq_true rfl) h (fun v27 S26 h => ?_)
        obtain ⟨b28, e29, h⟩ := h
        refine zs_stk0 (zs_rfe e29) ?_
        exact zu_throw d_4018_270 h
    · have h := h.2 c14
      refine zu_aload_n d_4018_250 rfl (zs_ra _) ?_
      obtain ⟨k30, h⟩ := h
      refine zc_4_619  hB rfl k30 d_4018_251 (Nat.le_of_ble_eq_true rfl) h (fun v32 S31 h => ?_)
      exact zu_aret d_4018_254 zr_4018 (zs_rr _) h
  · have h := h.2 c7
    refine zu_aload_n d_4018_200 rfl (zs_ra _) ?_
    obtain ⟨k33, h⟩ := h
    refine zc_4_357  hB rfl k33 d_4018_201 (Nat.le_of_ble_eq_true rfl) h (fun S34 h => ?_)
    refine zu_aload_n d_4018_204 rfl (zs_ra _) ?_
    obtain ⟨k36, h⟩ := h
    refine zg_4_5 rfl d_4018_205 k36 ?_
    obtain ⟨b37, e38, h⟩ := h
    refine zs_stk0 (zs_rfe e38) ?_
    obtain ⟨k39, h⟩ := h
    refine zc_4_29  hB rfl k39 d_4018_208 (Nat.le_of_ble_eq_true rfl) h (fun S40 h => ?_)
    refine zu_aload_n d_4018_211 rfl (zs_ra _) ?_
    obtain ⟨k42, h⟩ := h
    refine zc_4_569  hB rfl k42 d_4018_212 (Nat.le_of_ble_eq_true rfl) h (fun v44 S43 h => ?_)
    refine zu_astore_n d_4018_215 (zs_rr _) (zs_lt zq_4018 rfl) ?_
    refine zu_aload_n d_4018_216 rfl (zs_ra _) ?_
    refine zu_bipush d_4018_217 zj_41 ?_
    obtain ⟨k45, h⟩ := h
    refine zc_4_224 (x0 := (41 : Int32)) hB rfl k45 d_4018_219 (Nat.le_of_ble_eq_true rfl) h (fun S46 h => ?_)
    exact (u_X5_factor_222 hB h).weak ⟨rfl, rfl, trivial⟩
def w_X5_factor (X : zs_X) (d : Nat) (p0 : Nat) (S : zs_T) (Q : zs_Q) : Prop :=
  (zs_K S p0 = some (.inl 4) ∧ ∃ b2, (zs_R S 4000 p0) = some b2 ∧ zs_K S b2 = some (.inl 5) ∧ ((¬ (zs_I S 5003 b2) = (1 : Int32) → (((¬ (zs_I S 5003 b2) = (2 : Int32) → (zs_C X d 5015 [.ref b2, .int (27 : Int32)] S (zs_kI (fun v8 S7 => (((v8 = 0 → (zs_K S7 p0 = some (.inl 4) ∧ ∃ b11, (zs_R S7 4000 p0) = some b11 ∧ zs_K S7 b11 = some (.inl 5) ∧ zs_C X d 5015 [.ref b11, .int (32 : Int32)] S7 (zs_kI (fun v15 S14 => (((v15 = 0 → w_X5_factor_188 X d p0 S14 Q) ∧ (¬ (v15 = 0) → w_X5_factor_109 X d p0 S14 Q)))) Q))) ∧ (¬ (v8 = 0) → (zs_K S7 p0 = some (.inl 4) ∧ ∃ b18, (zs_R S7 4000 p0) = some b18 ∧ zs_K S7 b18 = some (.inl 5) ∧ zs_C X d 4016 [.ref p0, .int (12 : Int32), .int (zs_I S7 5005 b18), va_rf (zs_R S7 4006 p0)] S7 (zs_kR (fun v22 S21 => (w_X5_factor_88 X d p0 v22 S21 Q)) Q)))))) Q))) ∧ (¬ (¬ (zs_I S 5003 b2) = (2 : Int32)) → (zs_C X d 4020 [.ref p0] S (zs_kR (fun v24 S23 => (Q (.returned (some (va_rf v24))) S23)) Q)))))) ∧ (¬ (¬ (zs_I S 5003 b2) = (1 : Int32)) → (zs_C X d 4019 [.long (zs_J S 5007 b2), va_rf (zs_R S 4002 p0), .int (zs_I S 5005 b2)] S (zs_kR (fun v26 S25 => (zs_K S25 p0 = some (.inl 4) ∧ ∃ b28, (zs_R S25 4000 p0) = some b28 ∧ zs_K S25 b28 = some (.inl 5) ∧ zs_C X d 5004 [.ref b28] S25 (zs_kV (fun S31 => w_X5_factor_40 X d v26 S31 Q) Q))) Q)))))
theorem u_X5_factor {σ : Nat → Nat} {n0 : Nat} {bf : ab_B} {d : Nat} {p0 : Nat} {S : zs_T} {Q : zs_Q} (hB : zt_B bf) (hd : 1 ≤ d) (h : w_X5_factor (zx σ n0 bf) (d - 1) p0 S Q) : zs_C (zx σ n0 bf) d 4018 [.ref p0] S Q := by
  have hL : lv_args 0 [.ref p0] = [(0, .ref p0)] := rfl
  refine zs_C.of1 (hB.2 4018 (by decide) (by decide)) hd (by rw [hL]; exact zs_sub_self _ (by exact ⟨rfl, trivial⟩)) ?_
  rw [hL]
  clear hL
  unfold w_X5_factor at h
  refine zu_aload_n d_4018_0 rfl (zs_ra _) ?_
  obtain ⟨k1, h⟩ := h
  refine zg_4_5 rfl d_4018_1 k1 ?_
  obtain ⟨b2, e3, h⟩ := h
  refine zs_stk0 (zs_rfe e3) ?_
  obtain ⟨k4, h⟩ := h
  refine zg_4_231 rfl d_4018_4 k4 ?_
  refine zu_iconst d_4018_7 zi_1 ?_
  refine zu_cmpne (t := 42) d_4018_8 rfl (fun c5 => ?_) (fun c5 => ?_)
  · have h := h.1 c5
    refine zu_aload_n d_4018_42 rfl (zs_ra _) ?_
    refine zg_4_5 rfl d_4018_43 k1 ?_
    refine zs_stk0 (zs_rfe e3) ?_
    refine zg_4_231 rfl d_4018_46 k4 ?_
    refine zu_iconst d_4018_49 zi_2 ?_
    refine zu_cmpne (t := 58) d_4018_50 rfl (fun c6 => ?_) (fun c6 => ?_)
    · have h := h.1 c6
      refine zu_aload_n d_4018_58 rfl (zs_ra _) ?_
      refine zg_4_5 rfl d_4018_59 k1 ?_
      refine zu_bipush d_4018_62 zj_27 ?_
      refine zs_stk1 (zs_rfe e3) ?_
      refine zc_4_33 (x0 := (27 : Int32)) hB rfl k4 d_4018_64 (Nat.le_of_ble_eq_true rfl) h (fun v8 S7 h => ?_)
      refine zu_ifeq (t := 97) d_4018_67 rfl (fun c9 => ?_) (fun c9 => ?_)
      · have h := h.1 c9
        refine zu_aload_n d_4018_97 rfl (zs_ra _) ?_
        obtain ⟨k10, h⟩ := h
        refine zg_4_5 rfl d_4018_98 k10 ?_
        refine zu_bipush d_4018_101 zj_32 ?_
        obtain ⟨b11, e12, h⟩ := h
        refine zs_stk1 (zs_rfe e12) ?_
        obtain ⟨k13, h⟩ := h
        refine zc_4_33 (x0 := (32 : Int32)) hB rfl k13 d_4018_103 (Nat.le_of_ble_eq_true rfl) h (fun v15 S14 h => ?_)
        refine zu_ifeq (t := 188) d_4018_106 rfl (fun c16 => ?_) (fun c16 => ?_)
        · have h := h.1 c16
          exact (u_X5_factor_188 hB h).weak ⟨rfl, trivial⟩
        · have h := h.2 c16
          exact (u_X5_factor_109 hB h).weak ⟨rfl, trivial⟩
      · have h := h.2 c9
        refine zu_aload_n d_4018_70 rfl (zs_ra _) ?_
        refine zu_bipush d_4018_71 zj_12 ?_
        refine zu_aload_n d_4018_73 rfl (zs_ra _) ?_
        obtain ⟨k17, h⟩ := h
        refine zg_4_5 rfl d_4018_74 k17 ?_
        obtain ⟨b18, e19, h⟩ := h
        refine zs_stk0 (zs_rfe e19) ?_
        obtain ⟨k20, h⟩ := h
        refine zg_4_11 rfl d_4018_77 k20 ?_
        refine zu_aload_n d_4018_80 rfl (zs_ra _) ?_
        refine zg_4_159 rfl d_4018_81 k17 ?_
        refine zc_4_572 (x0 := (12 : Int32)) (x1 := (zs_I S7 5005 b18)) (x2 := (zs_R S7 4006 p0)) hB rfl k17 d_4018_84 (Nat.le_of_ble_eq_true rfl) h (fun v22 S21 h => ?_)
        refine zu_astore_n d_4018_87 (zs_rr _) (zs_lt zq_4018 rfl) ?_
        exact (u_X5_factor_88 hB h).weak ⟨rfl, rfl, trivial⟩
    · have h := h.2 c6
      refine zu_aload_n d_4018_53 rfl (zs_ra _) ?_
      refine zc_4_613  hB rfl k1 d_4018_54 (Nat.le_of_ble_eq_true rfl) h (fun v24 S23 h => ?_)
      exact zu_aret d_4018_57 zr_4018 (zs_rr _) h
  · have h := h.2 c5
    refine zu_aload_n d_4018_11 rfl (zs_ra _) ?_
    refine zg_4_5 rfl d_4018_12 k1 ?_
    refine zs_stk0 (zs_rfe e3) ?_
    refine zg_4_611 rfl d_4018_15 k4 ?_
    refine zu_aload_n d_4018_18 rfl (zs_ra _) ?_
    refine zg_4_147 rfl d_4018_19 k1 ?_
    refine zu_aload_n d_4018_22 rfl (zs_ra _) ?_
    refine zg_4_5 rfl d_4018_23 k1 ?_
    refine zs_stk0 (zs_rfe e3) ?_
    refine zg_4_11 rfl d_4018_26 k4 ?_
    refine zc_4_470 (x0 := (zs_J S 5007 b2)) (x1 := (zs_R S 4002 p0)) (x2 := (zs_I S 5005 b2)) hB rfl d_4018_29 (Nat.le_of_ble_eq_true rfl) h (fun v26 S25 h => ?_)
    refine zu_astore_n d_4018_32 (zs_rr _) (zs_lt zq_4018 rfl) ?_
    refine zu_aload_n d_4018_33 rfl (zs_ra _) ?_
    obtain ⟨k27, h⟩ := h
    refine zg_4_5 rfl d_4018_34 k27 ?_
    obtain ⟨b28, e29, h⟩ := h
    refine zs_stk0 (zs_rfe e29) ?_
    obtain ⟨k30, h⟩ := h
    refine zc_4_29  hB rfl k30 d_4018_37 (Nat.le_of_ble_eq_true rfl) h (fun S31 h => ?_)
    exact (u_X5_factor_40 hB h).weak ⟨rfl, trivial⟩
/-! SchemaPascal$Reader.number(JLSchemaPascal$Type;I)LSchemaPascal$Node; -/
theorem zm_4019 {σ : Nat → Nat} {n0 : Nat} {bf : ab_B} : ab_code (zx σ n0 bf).1 4019 = prog_9_method_51_code := rfl
theorem zq_4019 {σ : Nat → Nat} {n0 : Nat} {bf : ab_B} : ab_maxL (zx σ n0 bf).1 4019 = 5 := rfl
theorem zr_4019 {σ : Nat → Nat} {n0 : Nat} {bf : ab_B} : ab_ret (zx σ n0 bf).1 4019 = (Option.some (Jvm.ClassFile.FieldType.object "SchemaPascal$Node")) := rfl
theorem d_4019_0 {σ : Nat → Nat} {n0 : Nat} {bf : ab_B} : decode (ab_code (zx σ n0 bf).1 4019) 0 = .ok (.new 298, 3) := zd zm_4019 (by decide +kernel)
theorem d_4019_3 {σ : Nat → Nat} {n0 : Nat} {bf : ab_B} : decode (ab_code (zx σ n0 bf).1 4019) 3 = .ok (.dup, 1) := zd zm_4019 (by decide +kernel)
theorem d_4019_4 {σ : Nat → Nat} {n0 : Nat} {bf : ab_B} : decode (ab_code (zx σ n0 bf).1 4019) 4 = .ok (.iconst 0, 1) := zd zm_4019 (by decide +kernel)
theorem d_4019_5 {σ : Nat → Nat} {n0 : Nat} {bf : ab_B} : decode (ab_code (zx σ n0 bf).1 4019) 5 = .ok (.iload_n 3, 1) := zd zm_4019 (by decide +kernel)
theorem d_4019_6 {σ : Nat → Nat} {n0 : Nat} {bf : ab_B} : decode (ab_code (zx σ n0 bf).1 4019) 6 = .ok (.invokespecial 568, 3) := zd zm_4019 (by decide +kernel)
theorem d_4019_9 {σ : Nat → Nat} {n0 : Nat} {bf : ab_B} : decode (ab_code (zx σ n0 bf).1 4019) 9 = .ok (.astore 4, 2) := zd zm_4019 (by decide +kernel)
theorem d_4019_11 {σ : Nat → Nat} {n0 : Nat} {bf : ab_B} : decode (ab_code (zx σ n0 bf).1 4019) 11 = .ok (.aload 4, 2) := zd zm_4019 (by decide +kernel)
theorem d_4019_13 {σ : Nat → Nat} {n0 : Nat} {bf : ab_B} : decode (ab_code (zx σ n0 bf).1 4019) 13 = .ok (.lload_n 0, 1) := zd zm_4019 (by decide +kernel)
theorem d_4019_14 {σ : Nat → Nat} {n0 : Nat} {bf : ab_B} : decode (ab_code (zx σ n0 bf).1 4019) 14 = .ok (.putfield 300, 3) := zd zm_4019 (by decide +kernel)
theorem d_4019_17 {σ : Nat → Nat} {n0 : Nat} {bf : ab_B} : decode (ab_code (zx σ n0 bf).1 4019) 17 = .ok (.aload 4, 2) := zd zm_4019 (by decide +kernel)
theorem d_4019_19 {σ : Nat → Nat} {n0 : Nat} {bf : ab_B} : decode (ab_code (zx σ n0 bf).1 4019) 19 = .ok (.aload_n 2, 1) := zd zm_4019 (by decide +kernel)
theorem d_4019_20 {σ : Nat → Nat} {n0 : Nat} {bf : ab_B} : decode (ab_code (zx σ n0 bf).1 4019) 20 = .ok (.putfield 297, 3) := zd zm_4019 (by decide +kernel)
theorem d_4019_23 {σ : Nat → Nat} {n0 : Nat} {bf : ab_B} : decode (ab_code (zx σ n0 bf).1 4019) 23 = .ok (.aload 4, 2) := zd zm_4019 (by decide +kernel)
theorem d_4019_25 {σ : Nat → Nat} {n0 : Nat} {bf : ab_B} : decode (ab_code (zx σ n0 bf).1 4019) 25 = .ok (.areturn, 1) := zd zm_4019 (by decide +kernel)
def w_X5_number (X : zs_X) (d : Nat) (p0 : Int64) (p2 : Option Nat) (p3 : Int32) (S : zs_T) (Q : zs_Q) : Prop :=
  (∀ a1 S2, a1 = zs_N S → S2 = zs_nw S (.inl 11) 13 → zs_C X d 11000 [.ref a1, .int (0 : Int32), .int p3] S2 (zs_kV (fun S6 => (zs_K S6 a1 = some (.inl 11) ∧ ab_n0 X.1 ≤ a1 ∧ ∀ S10, S10 = zs_sJ S6 11004 a1 p0 → ∀ S13, S13 = zs_sR S10 11002 a1 p2 → Q (.returned (some (.ref a1))) S13)) Q))
theorem u_X5_number {σ : Nat → Nat} {n0 : Nat} {bf : ab_B} {d : Nat} {p0 : Int64} {p2 : Option Nat} {p3 : Int32} {S : zs_T} {Q : zs_Q} (hB : zt_B bf) (hd : 1 ≤ d) (h : w_X5_number (zx σ n0 bf) (d - 1) p0 p2 p3 S Q) : zs_C (zx σ n0 bf) d 4019 [.long p0, va_rf p2, .int p3] S Q := by
  have hL : lv_args 0 [.long p0, va_rf p2, .int p3] = [(0, .long p0), (2, va_rf p2), (3, .int p3)] := by simp [lv_args, zs_cat, zs_cI, zs_cJ, zs_cA]
  refine zs_C.of1 (hB.2 4019 (by decide) (by decide)) hd (by rw [hL]; exact zs_sub_self _ (by exact ⟨rfl, rfl, rfl, trivial⟩)) ?_
  rw [hL]
  clear hL
  unfold w_X5_number at h
  refine zn_4_298 rfl d_4019_0 ?_
  generalize e4 : zs_nw S (.inl 11) 13 = S2
  generalize e3 : zs_N S = a1
  have h := h a1 S2 e3.symm e4.symm
  have k5 := zs_kn e3 e4
  refine zu_dup d_4019_3 rfl ?_
  refine zu_iconst d_4019_4 zi_0 ?_
  refine zu_iload_n d_4019_5 rfl ?_
  refine zc_4_568 (x0 := (0 : Int32)) (x1 := p3) hB rfl d_4019_6 (Nat.le_of_ble_eq_true rfl) h (fun S6 h => ?_)
  refine zu_astore d_4019_9 (zs_ra _) (zs_lt zq_4019 rfl) ?_
  refine zu_aload d_4019_11 rfl (zs_ra _) ?_
  refine zu_lload_n d_4019_13 rfl ?_
  obtain ⟨k8, h⟩ := h
  obtain ⟨k9, h⟩ := h
  refine zp_4_300 (v := p0) rfl d_4019_14 k8 k9 ?_
  generalize e11 : zs_sJ S6 11004 a1 p0 = S10
  have h := h S10 e11.symm
  have K12 : ∀ b, zs_K S10 b = zs_K S6 b := zs_Kt e11 (zs_KsJ _ _ _ _) (fun _ => rfl)
  refine zu_aload d_4019_17 rfl (zs_ra _) ?_
  refine zu_aload_n d_4019_19 rfl (zs_rr _) ?_
  refine zp_4_297 (v := p2) rfl d_4019_20 ((K12 _).trans k8) k9 ?_
  generalize e14 : zs_sR S10 11002 a1 p2 = S13
  have h := h S13 e14.symm
  have K15 : ∀ b, zs_K S13 b = zs_K S6 b := zs_Kt e14 (zs_KsR _ _ _ _) K12
  refine zu_aload d_4019_23 rfl (zs_ra _) ?_
  exact zu_aret d_4019_25 zr_4019 (zs_ra _) h
