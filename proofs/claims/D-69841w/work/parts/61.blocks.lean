/-! BLOCKS OF NAMES, in the reference -/
section MB
variable {σ : Nat → Nat} {n0 : Nat} {bf : ab_B} {d : Nat} {T T1 : zs_T} {Q : zs_Q} {m names cnt : Nat} {A : Nat → Nat} {Ms : List mE} {Bs : List (Nat × Nat)} {F : List Nat}
theorem bs_old {x : Nat × Nat} {i : Nat} (h : i < Bs.length) : (Bs ++ [x]).getD i (0, 0) = Bs.getD i (0, 0) := by simp [List.getD, List.getElem?_append_left h]
theorem bs_new (Bs : List (Nat × Nat)) (x : Nat × Nat) : (Bs ++ [x]).getD Bs.length (0, 0) = x := by simp [List.getD]
theorem r_openNames (hB : zt_B bf) (hd : 1 ≤ d) (R : mR n0 T m A) (W : mM T m A names Ms Bs cnt) (hb : Bs.length < 98) (hc : cnt < 100000) {K : zs_T → Prop} (h : ∀ T1, mX m A T T1 [8032, 8033, 8034, 8035] → mM T1 m A names Ms (Bs ++ [(Ms.length, cnt + 1)]) (cnt + 1) → K T1) : zs_C (zx σ n0 bf) d 8010 [.ref m] T (zs_kV K Q) := by
  have inj := R.inj
  have hbn := W.bn
  have hbc := W.bc
  have e1 : (zs_I T 8034 m).toNatClampNeg = Bs.length := by rw [zi_nat]; omega
  have e2 : (zs_I T 8035 m + 1).toInt = cnt + 1 := by rw [zi_add] <;> simp only [zi_lit] <;> omega
  refine u_X9_openNames hB hd ?_
  refine ⟨R.K, A 8032, R.r8032, zi_A R.k8032 (by omega) (by omega), R.ga _, ?_⟩
  rintro _ rfl
  refine ⟨R.g, ?_⟩
  rintro _ rfl
  refine ⟨A 8033, R.r8033, zi_A R.k8033 (by simp [zs_rd, zs_rda]; omega) (by simp [zs_rd, zs_rda]; omega), R.ga _, ?_⟩
  rintro _ rfl
  refine ⟨by simpa [zs_rd, zs_rda] using R.K, R.g, ?_⟩
  rintro _ rfl
  have X1 := ((((mX.refl T).si R (f := 8032) (k := Bs.length) (v := zs_I T 8031 m)).sI R (f := 8035) (v := zs_I T 8035 m + 1)).si R (f := 8033) (k := Bs.length) (v := zs_I T 8035 m + 1)).sI R (f := 8034) (v := zs_I T 8034 m + 1)
  have et : zs_sI (zs_si (zs_sI (zs_si T (A 8032) (zs_I T 8034 m).toNatClampNeg (zs_I T 8031 m)) 8035 m (zs_I (zs_si T (A 8032) (zs_I T 8034 m).toNatClampNeg (zs_I T 8031 m)) 8035 m + 1)) (A 8033) (zs_I (zs_sI (zs_si T (A 8032) (zs_I T 8034 m).toNatClampNeg (zs_I T 8031 m)) 8035 m (zs_I (zs_si T (A 8032) (zs_I T 8034 m).toNatClampNeg (zs_I T 8031 m)) 8035 m + 1)) 8034 m).toNatClampNeg (zs_I (zs_sI (zs_si T (A 8032) (zs_I T 8034 m).toNatClampNeg (zs_I T 8031 m)) 8035 m (zs_I (zs_si T (A 8032) (zs_I T 8034 m).toNatClampNeg (zs_I T 8031 m)) 8035 m + 1)) 8035 m)) 8034 m (zs_I (zs_si (zs_sI (zs_si T (A 8032) (zs_I T 8034 m).toNatClampNeg (zs_I T 8031 m)) 8035 m (zs_I (zs_si T (A 8032) (zs_I T 8034 m).toNatClampNeg (zs_I T 8031 m)) 8035 m + 1)) (A 8033) (zs_I (zs_sI (zs_si T (A 8032) (zs_I T 8034 m).toNatClampNeg (zs_I T 8031 m)) 8035 m (zs_I (zs_si T (A 8032) (zs_I T 8034 m).toNatClampNeg (zs_I T 8031 m)) 8035 m + 1)) 8034 m).toNatClampNeg (zs_I (zs_sI (zs_si T (A 8032) (zs_I T 8034 m).toNatClampNeg (zs_I T 8031 m)) 8035 m (zs_I (zs_si T (A 8032) (zs_I T 8034 m).toNatClampNeg (zs_I T 8031 m)) 8035 m + 1)) 8035 m)) 8034 m + 1) = zs_sI (zs_si (zs_sI (zs_si T (A 8032) Bs.length (zs_I T 8031 m)) 8035 m (zs_I T 8035 m + 1)) (A 8033) Bs.length (zs_I T 8035 m + 1)) 8034 m (zs_I T 8034 m + 1) := by
    simp [zs_rd, zs_rda, e1]
  rw [et]
  have c1 : ∀ j, zs_i (zs_sI (zs_si (zs_sI (zs_si T (A 8032) Bs.length (zs_I T 8031 m)) 8035 m (zs_I T 8035 m + 1)) (A 8033) Bs.length (zs_I T 8035 m + 1)) 8034 m (zs_I T 8034 m + 1)) (A 8032) j = if j = Bs.length then zs_I T 8031 m else zs_i T (A 8032) j := by intro j; simp [zs_rd, zs_rda, inj]
  have c2 : ∀ j, zs_i (zs_sI (zs_si (zs_sI (zs_si T (A 8032) Bs.length (zs_I T 8031 m)) 8035 m (zs_I T 8035 m + 1)) (A 8033) Bs.length (zs_I T 8035 m + 1)) 8034 m (zs_I T 8034 m + 1)) (A 8033) j = if j = Bs.length then zs_I T 8035 m + 1 else zs_i T (A 8033) j := by intro j; simp [zs_rd, zs_rda, inj]
  have c3 : zs_I (zs_sI (zs_si (zs_sI (zs_si T (A 8032) Bs.length (zs_I T 8031 m)) 8035 m (zs_I T 8035 m + 1)) (A 8033) Bs.length (zs_I T 8035 m + 1)) 8034 m (zs_I T 8034 m + 1)) 8034 m = zs_I T 8034 m + 1 := by simp only [zs_rd, and_self, if_true]
  have c4 : zs_I (zs_sI (zs_si (zs_sI (zs_si T (A 8032) Bs.length (zs_I T 8031 m)) 8035 m (zs_I T 8035 m + 1)) (A 8033) Bs.length (zs_I T 8035 m + 1)) 8034 m (zs_I T 8034 m + 1)) 8035 m = zs_I T 8035 m + 1 := by simp [zs_rd, zs_rda]
  generalize zs_sI (zs_si (zs_sI (zs_si T (A 8032) Bs.length (zs_I T 8031 m)) 8035 m (zs_I T 8035 m + 1)) (A 8033) Bs.length (zs_I T 8035 m + 1)) 8034 m (zs_I T 8034 m + 1) = T1 at X1 c1 c2 c3 c4
  have i1 : ∀ f, f ∉ [8034, 8033, 8035, 8032] → ∀ j, zs_i T1 (A f) j = zs_i T (A f) j := fun f hf j => X1.i f hf j
  refine h T1 (X1.mk' rfl) ⟨by rw [X1.I 8031 (by decide)]; exact W.n, W.bd, fun i hi => by rw [i1 8024 (by decide)]; exact W.kind i hi, fun i hi => by rw [i1 8025 (by decide)]; exact W.name i hi, fun i hi => by rw [i1 8026 (by decide)]; exact W.type i hi, fun i hi => by rw [i1 8027 (by decide)]; exact W.val i hi, fun i hi => by rw [i1 8028 (by decide)]; exact W.more i hi, fun i hi => by rw [i1 8029 (by decide)]; exact W.bef i hi, fun i hi => by rw [i1 8030 (by decide)]; exact W.blk i hi, W.nam, fun j h3 h4 => by rw [i1 8019 (by decide)]; exact W.now j h3 h4, ?_, ?_, ?_, ?_, ?_, by omega, ?_, ?_, ?_, W.nb⟩
  · rw [c3, List.length_append, List.length_singleton, zi_add] <;> simp only [zi_lit] <;> omega
  · rw [List.length_append, List.length_singleton]; omega
  · intro i hi
    rw [List.length_append, List.length_singleton] at hi
    rw [c1]
    by_cases e : i = Bs.length
    · subst e; rw [if_pos rfl, bs_new]; exact W.n
    · rw [if_neg e, bs_old (by omega)]; exact W.bfr i (by omega)
  · intro i hi
    rw [List.length_append, List.length_singleton] at hi
    rw [c2]
    by_cases e : i = Bs.length
    · subst e; rw [if_pos rfl, bs_new, e2]; simp
    · rw [if_neg e, bs_old (by omega)]; exact W.bnr i (by omega)
  · rw [c4, e2]; simp
  · intro i hi
    rw [List.length_append, List.length_singleton] at hi
    by_cases e : i = Bs.length
    · subst e; rw [bs_new]; exact ⟨Nat.le_refl _, Nat.le_refl _⟩
    · rw [bs_old (by omega)]
      have := W.bin i (by omega)
      exact ⟨this.1, by omega⟩
  · intro i j hij hj
    rw [List.length_append, List.length_singleton] at hj
    rw [bs_old (by omega)]
    have bi := W.bin i (by omega)
    by_cases e : j = Bs.length
    · subst e; rw [bs_new]; exact ⟨bi.1, by simp only; omega⟩
    · rw [bs_old (by omega)]; exact W.mono i j hij (by omega)
  · intro k hk
    obtain ⟨i, a1, a2, a3, a4⟩ := W.inb k hk
    refine ⟨i, by rw [List.length_append, List.length_singleton]; omega, by rw [bs_old a1]; exact a2, by rw [bs_old a1]; exact a3, fun j g1 g2 => ?_⟩
    rw [List.length_append, List.length_singleton] at g2
    by_cases e : j = Bs.length
    · subst e; rw [bs_new]; exact hk
    · rw [bs_old (by omega)]; exact a4 j g1 (by omega)
/-- does a name mean something of the innermost block? -/
theorem r_isHere (hB : zt_B bf) (hd : 1 ≤ d) (R : mR n0 T m A) (W : mM T m A names Ms Bs cnt) (hb : 1 ≤ Bs.length) {p1 : Int32} (h1 : 1 ≤ p1.toInt ∧ p1.toInt ≤ names) {K : Int32 → zs_T → Prop} (h : ∀ v, bv v ((Bs.getD (Bs.length - 1) (0, 0)).1 < mLast Ms p1.toInt.toNat Ms.length) → K v T) : zs_C (zx σ n0 bf) d 8095 [.ref m, .int p1] T (zs_kI K Q) := by
  have hnb := W.nb
  have hbn := W.bn
  have hbb := W.bb
  have hbd := W.bd
  have nw := W.now p1.toInt.toNat (by omega) (by omega)
  have le := mLast_le Ms p1.toInt.toNat Ms.length
  have e0 : p1.toNatClampNeg = p1.toInt.toNat := rfl
  refine u_X9_isHere hB hd ?_
  refine ⟨R.K, A 8019, R.r8019, zi_A R.k8019 (by omega) (by omega), ?_⟩
  rw [e0]
  refine ⟨fun g => h _ (bv.f ?_), fun g => ?_⟩ <;> simp only [zi_le, zi_lit] at g
  · omega
  · obtain ⟨k, hk⟩ : ∃ k, mLast Ms p1.toInt.toNat Ms.length = k + 1 := ⟨mLast Ms p1.toInt.toNat Ms.length - 1, by omega⟩
    have e1 : (zs_i T (A 8019) p1.toInt.toNat).toNatClampNeg = k + 1 := by rw [zi_nat]; omega
    have e4 : (zs_I T 8034 m - 1).toInt = ((Bs.length - 1 : Nat) : Int) := by rw [zi_sub] <;> simp only [zi_lit] <;> omega
    have e5 : (zs_I T 8034 m - 1).toNatClampNeg = Bs.length - 1 := by rw [zi_nat]; omega
    refine ⟨A 8030, R.r8030, zi_A R.k8030 (by omega) (by omega), A 8033, R.r8033, zi_A R.k8033 (by omega) (by omega), ?_⟩
    rw [e1, e5, W.blk k (by omega)]
    have bl := W.bnr (Bs.length - 1) (by omega)
    obtain ⟨i, a1, a2, a3, a4⟩ := W.inb k (by omega)
    rw [hk] at h
    refine ⟨fun g2 => h _ (bv.f ?_), fun g2 => h _ (bv.t ?_)⟩ <;> simp only [zi_eq, Classical.not_not] at g2
    · intro q
      by_cases e : i = Bs.length - 1
      · subst e; exact g2 (a2.trans bl.symm)
      · have := a4 (Bs.length - 1) (by omega) (by omega)
        omega
    · by_cases e : i = Bs.length - 1
      · subst e; omega
      · have := (W.mono i (Bs.length - 1) (by omega) (by omega)).2
        omega
theorem mLast_take {Ms : List mE} {nm k : Nat} : ∀ {i : Nat}, i ≤ k → mLast (Ms.take k) nm i = mLast Ms nm i
  | 0, _ => rfl
  | i + 1, h => by
    have e : (Ms.take k).getD i mE0 = Ms.getD i mE0 := by
      simp only [List.getD, List.getElem?_take]
      rw [if_pos (by omega)]
    rw [mLast, mLast, e, mLast_take (by omega)]
theorem mE_take {Ms : List mE} {k i : Nat} (h : i < k) : (Ms.take k).getD i mE0 = Ms.getD i mE0 := by
  simp only [List.getD, List.getElem?_take]
  rw [if_pos h]
/-- names mean what they did before: the loop -/
theorem r_closeNames_10 (hB : zt_B bf) (R : mR n0 T m A) {x : Nat × Nat} (W : mM T m A names Ms (Bs ++ [x]) cnt)
    (h : ∀ T1, mX m A T T1 [8031, 8019, 8034] → (zs_I T1 8031 m).toInt = x.1 → (zs_I T1 8034 m).toInt = Bs.length → (∀ j, 1 ≤ j → j ≤ names → (zs_i T1 (A 8019) j).toInt = mLast Ms j x.1) → Q (.returned none) T1) :
    ∀ (f k : Nat) {T2 : zs_T}, k = x.1 + f → k ≤ Ms.length → mX m A T T2 [8031, 8019, 8034] → (zs_I T2 8031 m).toInt = k → (zs_I T2 8034 m).toInt = Bs.length → (∀ j, 1 ≤ j → j ≤ names → (zs_i T2 (A 8019) j).toInt = mLast Ms j k) → zs_U (zx σ n0 bf) d 8093 10 [(0, .ref m)] [] T2 Q
  | f, k, T2, e1, e2, X2, g1, g2, g3 => by
    have R2 := R.X X2
    have hbb := W.bb
    rw [List.length_append, List.length_singleton] at hbb
    have hfr := W.bfr Bs.length (by rw [List.length_append, List.length_singleton]; omega)
    rw [bs_new] at hfr
    have e3 : (zs_I T2 8034 m).toNatClampNeg = Bs.length := by rw [zi_nat]; omega
    have c32 : zs_i T2 (A 8032) Bs.length = zs_i T (A 8032) Bs.length := X2.i 8032 (by decide) _
    have hbd := W.bd
    have hnb := W.nb
    refine u_X9_closeNames_10 hB ⟨R2.K, A 8032, R2.r8032, zi_A R2.k8032 (by omega) (by omega), ?_⟩
    rw [e3, c32]
    match f, e1 with
    | 0, e1 =>
      have : k = x.1 := by omega
      subst this
      exact ⟨fun _ => h T2 X2 g1 g2 g3, fun g => absurd (zi_le.mpr (by omega)) g⟩
    | f + 1, e1 =>
      obtain ⟨q, rfl⟩ : ∃ q, k = q + 1 := ⟨k - 1, by omega⟩
      have hq : q < Ms.length := by omega
      have e4 : (zs_I T2 8031 m).toNatClampNeg = q + 1 := by rw [zi_nat]; omega
      have n25 : zs_i T2 (A 8025) (q + 1) = (Ms.getD q mE0).2.1 := (X2.i 8025 (by decide) _).trans (W.name q hq)
      have n29 : (zs_i T2 (A 8029) (q + 1)).toInt = mLast Ms (Ms.getD q mE0).2.1.toInt.toNat q := by rw [X2.i 8029 (by decide)]; exact W.bef q hq
      have nr := W.nam q hq
      refine ⟨fun g => absurd (zi_le.mp g) (by omega), fun _ => ⟨A 8025, R2.r8025, zi_A R2.k8025 (by omega) (by omega), A 8029, R2.r8029, zi_A R2.k8029 (by omega) (by omega), A 8019, R2.r8019, ?_, R.ga _, ?_⟩⟩
      · rw [e4, n25]
        exact zi_A R2.k8019 (by omega) (by omega)
      · rintro _ rfl
        rw [e4, n25]
        refine ⟨by simpa [zs_rda] using R2.K, R.g, ?_⟩
        rintro _ rfl
        have X3 := (X2.si R (f := 8019) (k := (Ms.getD q mE0).2.1.toNatClampNeg) (v := zs_i T2 (A 8029) (q + 1))).sI R (f := 8031) (v := zs_I (zs_si T2 (A 8019) (Ms.getD q mE0).2.1.toNatClampNeg (zs_i T2 (A 8029) (q + 1))) 8031 m - 1)
        refine r_closeNames_10 hB R W h f q (by omega) (by omega) (X3.mk' rfl) ?_ ?_ ?_
        · simp only [zs_rd, zs_rda, and_self, if_true]
          rw [zi_sub] <;> simp only [zi_lit] <;> omega
        · simpa [zs_rd, zs_rda] using g2
        · intro j h3 h4
          have g4 := g3 j h3 h4
          rw [mLast] at g4
          by_cases e : j = (Ms.getD q mE0).2.1.toNatClampNeg
          · rw [show zs_i (zs_sI (zs_si T2 (A 8019) (Ms.getD q mE0).2.1.toNatClampNeg (zs_i T2 (A 8029) (q + 1))) 8031 m (zs_I (zs_si T2 (A 8019) (Ms.getD q mE0).2.1.toNatClampNeg (zs_i T2 (A 8029) (q + 1))) 8031 m - 1)) (A 8019) j = zs_i T2 (A 8029) (q + 1) from by rw [e]; simp only [zs_rd, zs_rda, and_self, if_true], n29, e]
            rfl
          · rw [show zs_i (zs_sI (zs_si T2 (A 8019) (Ms.getD q mE0).2.1.toNatClampNeg (zs_i T2 (A 8029) (q + 1))) 8031 m (zs_I (zs_si T2 (A 8019) (Ms.getD q mE0).2.1.toNatClampNeg (zs_i T2 (A 8029) (q + 1))) 8031 m - 1)) (A 8019) j = zs_i T2 (A 8019) j from by simp only [zs_rd, zs_rda]; rw [if_neg (fun q => e q.2)], g4, if_neg (by rw [zi_nat] at e; omega)]
theorem r_closeNames (hB : zt_B bf) (hd : 1 ≤ d) (R : mR n0 T m A) {x : Nat × Nat} (W : mM T m A names Ms (Bs ++ [x]) cnt) {K : zs_T → Prop} (h : ∀ T1, mX m A T T1 [8031, 8019, 8034] → mM T1 m A names (Ms.take x.1) Bs cnt → K T1) : zs_C (zx σ n0 bf) d 8093 [.ref m] T (zs_kV K Q) := by
  have hbn := W.bn
  have hbb := W.bb
  rw [List.length_append, List.length_singleton] at hbn hbb
  have hx := W.bin Bs.length (by rw [List.length_append, List.length_singleton]; omega)
  rw [bs_new] at hx
  have X1 := (mX.refl T).sI R (f := 8034) (v := zs_I T 8034 m - 1)
  refine u_X9_closeNames hB hd ⟨R.K, R.g, ?_⟩
  rintro _ rfl
  refine r_closeNames_10 hB R W ?_ (Ms.length - x.1) Ms.length (by omega) (Nat.le_refl _) (X1.mk' rfl) (by simpa [zs_rd] using W.n) ?_ ?_
  · intro T1 q1 q2 q3 q4
    have hl : (Ms.take x.1).length = x.1 := by rw [List.length_take]; omega
    have i1 : ∀ f, f ∉ [8031, 8019, 8034] → ∀ j, zs_i T1 (A f) j = zs_i T (A f) j := fun f hf j => q1.i f hf j
    have lt : ∀ i, i < (Ms.take x.1).length → i < x.1 ∧ i < Ms.length := fun i hi => by rw [hl] at hi; omega
    refine h T1 q1 ⟨by rw [q2, hl], by rw [hl]; have := W.bd; omega, fun i hi => by rw [i1 8024 (by decide), mE_take (lt i hi).1]; exact W.kind i (lt i hi).2, fun i hi => by rw [i1 8025 (by decide), mE_take (lt i hi).1]; exact W.name i (lt i hi).2, fun i hi => by rw [i1 8026 (by decide), mE_take (lt i hi).1]; exact W.type i (lt i hi).2, fun i hi => by rw [i1 8027 (by decide), mE_take (lt i hi).1]; exact W.val i (lt i hi).2, fun i hi => by rw [i1 8028 (by decide), mE_take (lt i hi).1]; exact W.more i (lt i hi).2, fun i hi => by rw [i1 8029 (by decide), mE_take (lt i hi).1, mLast_take (by have := lt i hi; omega)]; exact W.bef i (lt i hi).2, fun i hi => by rw [i1 8030 (by decide), mE_take (lt i hi).1]; exact W.blk i (lt i hi).2, fun i hi => by rw [mE_take (lt i hi).1]; exact W.nam i (lt i hi).2, fun j h3 h4 => by rw [q4 j h3 h4, hl, mLast_take (Nat.le_refl _)], q3, by omega, ?_, ?_, by rw [q1.I 8035 (by decide)]; exact W.bc, W.cb, ?_, ?_, ?_, W.nb⟩
    · intro i hi
      have := W.bfr i (by rw [List.length_append, List.length_singleton]; omega)
      rw [bs_old hi] at this
      rw [i1 8032 (by decide)]; exact this
    · intro i hi
      have := W.bnr i (by rw [List.length_append, List.length_singleton]; omega)
      rw [bs_old hi] at this
      rw [i1 8033 (by decide)]; exact this
    · intro i hi
      have a := W.bin i (by rw [List.length_append, List.length_singleton]; omega)
      have b := W.mono i Bs.length hi (by rw [List.length_append, List.length_singleton]; omega)
      rw [bs_old hi] at a b
      rw [bs_new] at b
      rw [hl]
      exact ⟨b.1, a.2⟩
    · intro i j hij hj
      have b := W.mono i j hij (by rw [List.length_append, List.length_singleton]; omega)
      rw [bs_old (by omega), bs_old hj] at b
      exact b
    · intro k hk
      have lk := lt k hk
      obtain ⟨i, a1, a2, a3, a4⟩ := W.inb k lk.2
      rw [List.length_append, List.length_singleton] at a1
      have hi : i < Bs.length := by
        by_cases e : i = Bs.length
        · subst e; rw [bs_new] at a3; omega
        · omega
      rw [bs_old hi] at a2 a3
      refine ⟨i, hi, by rw [mE_take lk.1]; exact a2, a3, fun j g1 g2 => ?_⟩
      have := a4 j g1 (by rw [List.length_append, List.length_singleton]; omega)
      rw [bs_old g2] at this
      exact this
  · simp only [zs_rd, and_self, if_true]
    rw [zi_sub] <;> simp only [zi_lit] <;> omega
  · intro j h3 h4
    simpa [zs_rd] using W.now j h3 h4
end MB
