/-! THE REFERENCE'S WORDS, 5: numbers, texts -/
/-- the reference's number r for v: the same, or both too big -/
def nv (v r : Int) : Prop := (r = v ∨ r > 2147483647 ∧ v > 2147483647) ∧ 0 ≤ v ∧ v ≤ 1099511627776 ∧ 0 ≤ r ∧ r ≤ 100000000000
/-- the bytes of a text that has begun -/
def lx_txb (b : Nat → Int) : Nat → Nat → List Int
  | 0, _ => []
  | f + 1, k => if b k = -1 then [] else if b k = 39 ∧ b (k + 1) ≠ 39 then [] else if b k < 32 then [] else b k :: lx_txb b f (if b k = 39 then k + 2 else k + 1)
theorem lx_txb_len (b : Nat → Int) : ∀ (f k c : Nat) {k1 c1 : Nat}, lx_txt b f k c = some (k1, c1) → c1 = c + (lx_txb b f k).length
  | 0, k, c, k1, c1, h => by simp [lx_txt] at h
  | f + 1, k, c, k1, c1, h => by
    rw [lx_txt] at h
    rw [lx_txb]
    by_cases h1 : b k = -1
    · simp [h1] at h
    · rw [if_neg h1] at h ⊢
      by_cases h2 : b k = 39 ∧ b (k + 1) ≠ 39
      · rw [if_pos h2] at h ⊢
        simp only [Option.some.injEq, Prod.mk.injEq] at h
        simp; omega
      · rw [if_neg h2] at h ⊢
        by_cases h3 : b k < 32
        · simp [h3] at h
        · rw [if_neg h3] at h ⊢
          have := lx_txb_len b f _ _ h
          simp only [List.length_cons]; omega
section MW5
variable {σ : Nat → Nat} {n0 : Nat} {bf : ab_B} {d : Nat} {Q : zs_Q} {m n : Nat} {A : Nat → Nat} {b : Nat → Int}
theorem zl_lit3 : (2 : Int64).toInt = 2 ∧ (36 : Int64).toInt = 36 := by decide
/-- the end of a number -/
theorem r_readNumber_206 (hB : zt_B bf) (hd : 3 ≤ d) {S : zs_T} {k : Nat} {p1 p4 : Int32} {p2 : Int64} {v : Int} (W : mT n0 S m A n b) (hf0 : zs_I S 8010 m = 0) (hk : (zs_I S 8005 m).toInt = k) (hv : nv v p2.toInt)
    (hr : ∀ S1, p4 ≠ 0 → lx_nend b (k, v) = some (k, v) → mX m A S S1 [8006, 8009] → (zs_I S1 8006 m).toInt = 3 → (zs_I S1 8009 m).toInt = v → Q (.returned none) S1)
    (ht : ∀ S1, (p4 = 0 ∨ lx_nend b (k, v) = none) → mX m A S S1 [8006, 8007, 8010, 8011] → zs_I S1 8010 m = 1 → zs_I S1 8011 m = p1 → Q (.returned none) S1) :
    w_X9_readNumber_206 (zx σ n0 bf) d m p1 p2 p4 S Q := by
  obtain ⟨hv1, hv2, hv3, hv4, hv5⟩ := hv
  have kx : (p4 = 0 ∨ lx_nend b (k, v) = none) → w_X9_readNumber_235 (zx σ n0 bf) d m p1 S Q := by
    intro g
    refine ⟨W.R.K, r_bad hB (by omega) W.R hf0 ?_⟩
    intro S1 q1 q2 q3
    exact ht S1 g q1 q2 q3
  refine ⟨fun g => kx (.inl g), fun g => ⟨fun g1 => kx (.inr ?_), fun g1 => ⟨W.R.K, r_b0 hB (by omega) W hk ?_⟩⟩⟩ <;> simp only [zl_lt, zl_lit] at g1
  · rw [lx_nend, if_pos (.inl (by simp only; omega))]
  · intro v5 hv5
    refine r_digit hB (by omega) ?_
    intro v7 hv7
    rw [hv5] at hv7
    refine ⟨fun g2 => ⟨W.R.K, W.R.g, ?_⟩, fun g2 => kx (.inr ?_)⟩ <;> simp only [zi_le, zi_lit2] at g2
    · rintro _ rfl
      refine ⟨by simpa [zs_rd] using W.R.K, W.R.g, ?_⟩
      rintro _ rfl
      refine hr _ g (by rw [lx_nend, if_neg (by simp only; omega)]) ((((mX.refl S).sI W.R).sI W.R).mk' rfl) (by simp [zs_rd]) ?_
      rw [show zs_I (zs_sI (zs_sI S 8006 m 3) 8009 m p2.toInt32) 8009 m = p2.toInt32 from by simp only [zs_rd, and_self, if_true], zl_to] <;> omega
    · rw [lx_nend, if_pos (.inr (by simp only; omega))]
theorem r_readNumber_140 (hB : zt_B bf) (hd : 3 ≤ d) {p1 p4 : Int32} {p5 : Int64} (hp4 : p4 ≠ 0) (h5 : 2 ≤ p5.toInt ∧ p5.toInt ≤ 36) (f : Nat) : ∀ {S : zs_T} {k : Nat} {p2 : Int64} {v : Int}, mT n0 S m A n b → zs_I S 8010 m = 0 → (zs_I S 8005 m).toInt = k → k ≤ n → n < k + f → nv v p2.toInt →
    (∀ S1 k1 v1, lx_dB b p5.toInt f k v = (k1, v1) → k ≤ k1 → k1 ≤ n → lx_nend b (k1, v1) = some (k1, v1) → mX m A S S1 [8005, 8006, 8009] → (zs_I S1 8006 m).toInt = 3 → (zs_I S1 8009 m).toInt = v1 → (zs_I S1 8005 m).toInt = k1 → Q (.returned none) S1) →
    (∀ S1 k1 v1, lx_dB b p5.toInt f k v = (k1, v1) → lx_nend b (k1, v1) = none → mX m A S S1 [8005, 8006, 8007, 8010, 8011] → zs_I S1 8010 m = 1 → zs_I S1 8011 m = p1 → Q (.returned none) S1) →
    zs_U (zx σ n0 bf) d 8021 140 [(0, .ref m), (1, .int p1), (2, .long p2), (4, .int p4), (5, .long p5)] [] S Q := by
  induction f with
  | zero => intro S k p2 v W _ h1 h2 h3; omega
  | succ f ih =>
    intro S k p2 v W hf0 hk h2 hf hv hr ht
    have hs := W.small
    have hend := W.ends k
    have hdv := lx_dv_spec (b k)
    refine u_X9_readNumber_140 hB ?_
    refine ⟨fun g => absurd g hp4, fun _ => ⟨W.R.K, r_b0 hB (by omega) W hk ?_⟩⟩
    intro v4 hv4
    refine r_digit hB (by omega) ?_
    intro v6 hv6
    rw [hv4] at hv6
    refine ⟨fun g => ?_, fun g => ?_⟩ <;> simp only [zl_le, zl_i] at g
    · have hst : lx_dB b p5.toInt (f + 1) k v = (k, v) := by rw [lx_dB, if_neg (by omega)]
      refine r_readNumber_206 hB hd W hf0 hk hv ?_ ?_
      · intro S1 q0 q1 q2 q3 q4
        exact hr S1 k v hst (Nat.le_refl _) h2 q1 (q2.mk' rfl) q3 q4 (by rw [q2.I 8005 (by decide)]; exact hk)
      · intro S1 q1 q2 q3 q4
        rcases q1 with q1 | q1
        · exact absurd q1 hp4
        · exact ht S1 k v hst q1 (q2.mk' rfl) q3 q4
    · obtain ⟨hv1, hv2, hv3, hvr4, hv5⟩ := hv
      have hst : lx_dB b p5.toInt (f + 1) k v = lx_dB b p5.toInt f (k + 1) (min (p5.toInt * v + lx_dv (b k)) 1099511627776) := by rw [lx_dB, if_pos (by omega)]
      have hmul : 0 ≤ p5.toInt * v := Int.mul_nonneg (by omega) hv2
      have hmul2 : 2 * v ≤ p5.toInt * v := Int.mul_le_mul_of_nonneg_right h5.1 hv2
      have go : ∀ q : Int64, nv (min (p5.toInt * v + lx_dv (b k)) 1099511627776) q.toInt → w_X9_readNumber_192 (zx σ n0 bf) d m p1 p4 p5 q S Q := by
        intro q hq
        refine ⟨W.R.K, W.R.g, ?_⟩
        rintro _ rfl
        have X1 := (mX.refl S).sI W.R (f := 8005) (v := zs_I S 8005 m + 1)
        refine ih (W.X X1 rfl) (by simpa [zs_rd] using hf0) (k := k + 1) (by simp only [zs_rd, and_self, if_true]; exact r_up hk (j := 1) rfl (by omega)) (by omega) (by omega) hq ?_ ?_
        · intro S1 k1 v1 q1 q2 q3 q4 q5 q6 q7 q8
          exact hr S1 k1 v1 (hst.trans q1) (by omega) q3 q4 ((X1.trans q5).mk' rfl) q6 q7 q8
        · intro S1 k1 v1 q1 q2 q3
          exact ht S1 k1 v1 (hst.trans q1) q2 ((X1.trans q3).mk' rfl)
      refine ⟨fun g1 => ⟨W.R.K, r_b0 hB (by omega) W hk ?_⟩, fun g1 => go p2 ?_⟩ <;> simp only [zl_le, zl_lit] at g1
      · intro v11 hv11
        refine r_digit hB (by omega) ?_
        intro v13 hv13
        rw [hv11] at hv13
        have hvr : p2.toInt = v := by omega
        have hmul3 : p5.toInt * v ≤ 36 * v := Int.mul_le_mul_of_nonneg_right h5.2 hv2
        have e3 : (p5 * p2).toInt = p5.toInt * v := by rw [zl_mul] <;> rw [hvr] <;> omega
        have e4 : (p5 * p2 + v13.toInt64).toInt = p5.toInt * v + lx_dv (b k) := by rw [zl_add] <;> simp only [zl_i, e3] <;> omega
        refine go _ ⟨.inl ?_, ?_, ?_, ?_, ?_⟩ <;> (try rw [e4]) <;> omega
      · refine ⟨.inr ⟨by omega, ?_⟩, ?_, ?_, ?_, ?_⟩ <;> omega
theorem r_readNumber_7 (hB : zt_B bf) (hd : 3 ≤ d) {p1 : Int32} {F kF : Nat} (hF : n < kF + F) (f : Nat) : ∀ {S : zs_T} {k : Nat} {p2 : Int64} {v : Int}, mT n0 S m A n b → zs_I S 8010 m = 0 → (zs_I S 8005 m).toInt = k → k ≤ n → n < k + f → kF ≤ k → nv v p2.toInt →
    (∀ S1 k1 v1, (if b (lx_d10 b f k v).1 = 35 then (if 2 ≤ (lx_d10 b f k v).2 ∧ (lx_d10 b f k v).2 ≤ 36 ∧ lx_dv (b ((lx_d10 b f k v).1 + 1)) < (lx_d10 b f k v).2 then lx_nend b (lx_dB b (lx_d10 b f k v).2 F ((lx_d10 b f k v).1 + 1) 0) else none) else lx_nend b (lx_d10 b f k v)) = some (k1, v1) → mX m A S S1 [8005, 8006, 8009] → (zs_I S1 8006 m).toInt = 3 → (zs_I S1 8009 m).toInt = v1 → (zs_I S1 8005 m).toInt = k1 → Q (.returned none) S1) →
    (∀ S1, (if b (lx_d10 b f k v).1 = 35 then (if 2 ≤ (lx_d10 b f k v).2 ∧ (lx_d10 b f k v).2 ≤ 36 ∧ lx_dv (b ((lx_d10 b f k v).1 + 1)) < (lx_d10 b f k v).2 then lx_nend b (lx_dB b (lx_d10 b f k v).2 F ((lx_d10 b f k v).1 + 1) 0) else none) else lx_nend b (lx_d10 b f k v)) = none → mX m A S S1 [8005, 8006, 8007, 8010, 8011] → zs_I S1 8010 m = 1 → zs_I S1 8011 m = p1 → Q (.returned none) S1) →
    zs_U (zx σ n0 bf) d 8021 7 [(0, .ref m), (1, .int p1), (2, .long p2)] [] S Q := by
  induction f with
  | zero => intro S k p2 v W _ h1 h2 h3; omega
  | succ f ih =>
    intro S k p2 v W hf0 hk h2 hf hkF hv hr ht
    have hs := W.small
    have hend := W.ends k
    refine u_X9_readNumber_7 hB ?_
    refine ⟨W.R.K, r_b0 hB (by omega) W hk ?_⟩
    intro v3 hv3
    refine r_isDigit hB (by omega) ?_
    intro v5 hv5
    rw [hv3] at hv5
    refine ⟨fun g => ⟨W.R.K, r_b0 hB (by omega) W hk ?_⟩, fun g => ?_⟩ <;> simp only [zi_eq, zi_lit] at g
    · intro v9 hv9
      have hst : lx_d10 b (f + 1) k v = (k, v) := by rw [lx_d10, if_neg (by omega)]
      rw [hst] at hr ht
      simp only at hr ht
      refine ⟨fun g1 => ?_, fun g1 => ⟨W.R.K, W.R.g, ?_⟩⟩ <;> simp only [zi_eq, zi_lit2, Classical.not_not] at g1
      · have hn35 : ¬ b k = 35 := by omega
        simp only [hn35, if_false] at hr ht
        refine r_readNumber_206 hB hd W hf0 hk hv ?_ ?_
        · intro S1 q0 q1 q2 q3 q4
          exact hr S1 k v q1 (q2.mk' rfl) q3 q4 (by rw [q2.I 8005 (by decide)]; exact hk)
        · intro S1 q1 q2 q3 q4
          rcases q1 with q1 | q1
          · exact absurd q1 (by decide)
          · exact ht S1 q1 (q2.mk' rfl) q3 q4
      · have h35 : b k = 35 := by omega
        simp only [h35, if_true] at hr ht
        rintro _ rfl
        have X1 := (mX.refl S).sI W.R (f := 8005) (v := zs_I S 8005 m + 1)
        have W1 := W.X X1 rfl
        have hk1 : (zs_I (zs_sI S 8005 m (zs_I S 8005 m + 1)) 8005 m).toInt = ((k + 1 : Nat) : Int) := by simp only [zs_rd, and_self, if_true]; exact r_up hk (j := 1) rfl (by omega)
        have hf1 : zs_I (zs_sI S 8005 m (zs_I S 8005 m + 1)) 8010 m = 0 := by simpa [zs_rd] using hf0
        have kx : ¬ (2 ≤ v ∧ v ≤ 36 ∧ lx_dv (b (k + 1)) < v) → w_X9_readNumber_135 (zx σ n0 bf) d m p1 p2 (zs_sI S 8005 m (zs_I S 8005 m + 1)) Q := by
          intro g5
          refine u_X9_readNumber_140 hB ⟨fun _ => ?_, fun g9 => absurd rfl g9⟩
          refine r_readNumber_206 (v := 0) hB hd W1 hf1 hk1 ⟨.inl rfl, by decide, by decide, by decide, by decide⟩ (fun S1 q0 => absurd rfl q0) ?_
          intro S1 q1 q2 q3 q4
          exact ht S1 (by rw [if_neg g5]) ((X1.trans q2).mk' rfl) q3 q4
        obtain ⟨hv1, hv2, hv3', hvr4, hvr5⟩ := hv
        refine ⟨fun g2 => kx ?_, fun g2 => ⟨fun g3 => kx ?_, fun g3 => ?_⟩⟩ <;> (try simp only [zl_lt, zl_lit3] at g2) <;> (try simp only [zl_lt, zl_lit3] at g3)
        · omega
        · omega
        · have hvr : p2.toInt = v := by omega
          refine r_b0 hB (by omega) W1 hk1 ?_
          intro v9 hv9
          refine r_digit hB (by omega) ?_
          intro v11 hv11
          rw [hv9] at hv11
          refine ⟨fun g4 => kx ?_, fun g4 => ?_⟩ <;> simp only [zl_le, zl_i] at g4
          · omega
          · have hq : 2 ≤ v ∧ v ≤ 36 ∧ lx_dv (b (k + 1)) < v := by omega
            simp only [hq, and_self, if_true] at hr ht
            refine r_readNumber_140 hB hd (by decide) (by omega) F W1 hf1 hk1 (by omega) (by omega) (v := 0) ⟨.inl rfl, by decide, by decide, by decide, by decide⟩ ?_ ?_
            · intro S1 k1 v1 q1 q2 q3 q4 q5 q6 q7 q8
              rw [hvr] at q1
              exact hr S1 k1 v1 (by rw [q1]; exact q4) ((X1.trans q5).mk' rfl) q6 q7 q8
            · intro S1 k1 v1 q1 q2 q3 q4 q5
              rw [hvr] at q1
              exact ht S1 (by rw [q1]; exact q2) ((X1.trans q3).mk' rfl) q4 q5
    · obtain ⟨hv1, hv2, hv3', hvr4, hvr5⟩ := hv
      have hst : lx_d10 b (f + 1) k v = lx_d10 b f (k + 1) (min (10 * v + b k - 48) 1099511627776) := by rw [lx_d10, if_pos (by omega)]
      rw [hst] at hr ht
      have go : ∀ q : Int64, nv (min (10 * v + b k - 48) 1099511627776) q.toInt → w_X9_readNumber_52 (zx σ n0 bf) d m p1 q S Q := by
        intro q hq
        refine ⟨W.R.K, W.R.g, ?_⟩
        rintro _ rfl
        have X1 := (mX.refl S).sI W.R (f := 8005) (v := zs_I S 8005 m + 1)
        refine ih (W.X X1 rfl) (by simpa [zs_rd] using hf0) (k := k + 1) (by simp only [zs_rd, and_self, if_true]; exact r_up hk (j := 1) rfl (by omega)) (by omega) (by omega) (by omega) hq ?_ ?_
        · intro S1 k1 v1 q1 q2
          exact hr S1 k1 v1 q1 ((X1.trans q2).mk' rfl)
        · intro S1 q1 q2
          exact ht S1 q1 ((X1.trans q2).mk' rfl)
      refine ⟨fun g1 => ⟨W.R.K, r_b0 hB (by omega) W hk ?_⟩, fun g1 => go p2 ?_⟩ <;> simp only [zl_le, zl_lit] at g1
      · intro v14 hv14
        have hvr : p2.toInt = v := by omega
        have e3 : (10 * p2).toInt = 10 * v := by rw [zl_mul] <;> simp only [zl_lit, hvr] <;> omega
        have e4 : (10 * p2 + v14.toInt64).toInt = 10 * v + b k := by rw [zl_add] <;> simp only [zl_i, e3] <;> omega
        have e5 : (10 * p2 + v14.toInt64 - 48).toInt = 10 * v + b k - 48 := by rw [zl_sub] <;> simp only [zl_lit, e4] <;> omega
        refine go _ ⟨.inl ?_, ?_, ?_, ?_, ?_⟩ <;> (try rw [e5]) <;> omega
      · refine ⟨.inr ⟨by omega, ?_⟩, ?_, ?_, ?_, ?_⟩ <;> omega
theorem r_readNumber (hB : zt_B bf) (hd : 4 ≤ d) {f k : Nat} {S : zs_T} (W : mT n0 S m A n b) (hf0 : zs_I S 8010 m = 0) (hk : (zs_I S 8005 m).toInt = k) (hkn : k ≤ n) (hf : n < k + f) {K : zs_T → Prop}
    (hr : ∀ S1 k1 v1, lx_num b f k = some (k1, v1) → mX m A S S1 [8005, 8006, 8009] → (zs_I S1 8006 m).toInt = 3 → (zs_I S1 8009 m).toInt = v1 → (zs_I S1 8005 m).toInt = k1 → K S1)
    (ht : ∀ S1, lx_num b f k = none → mX m A S S1 [8005, 8006, 8007, 8010, 8011] → zs_I S1 8010 m = 1 → (zs_I S1 8011 m).toInt = k → K S1) :
    zs_C (zx σ n0 bf) d 8021 [.ref m] S (zs_kV K Q) := by
  refine u_X9_readNumber hB (by omega) ?_
  have hd3 : 3 ≤ d - 1 := by omega
  refine ⟨W.R.K, r_readNumber_7 hB hd3 hf f W hf0 hk hkn hf (Nat.le_refl _) (v := 0) ⟨.inl rfl, by decide, by decide, by decide, by decide⟩ hr ?_⟩
  intro S1 q1 q2 q3 q4
  exact ht S1 q1 q2 q3 (by rw [q4]; exact hk)
end MW5
