/-! THE REFERENCE'S WORDS, 6: texts, signs, the next word -/
/-- the reference's number of a sign -/
def lx_sr (z : Int) : Int := if z = 43 then 1 else if z = 45 then 2 else if z = 42 then 3 else if z = 61 then 5 else if z = 60 then 6 else if z = 62 then 7 else if z = 40 then 8 else if z = 41 then 9 else if z = 91 then 10 else if z = 93 then 11 else if z = 44 then 12 else if z = 59 then 13 else if z = 58 then 14 else if z = 94 then 15 else if z = 46 then 16 else if z = 256 then 17 else if z = 257 then 18 else if z = 258 then 19 else if z = 259 then 20 else if z = 260 then 21 else 0
theorem zi_b255 {v : Int32} {c : Int} (h : v.toInt = c) (h1 : 0 ≤ c) (h2 : c ≤ 255) : (vp_nar .byte v.toInt8.toInt32 &&& 255).toInt = c := by
  have h3 : ∀ k : Fin 256, (vp_nar .byte (Int32.ofInt (k.val : Int)).toInt8.toInt32 &&& 255).toInt = (k.val : Int) := by decide +kernel
  have h4 := h3 ⟨c.toNat, by omega⟩
  have h5 : ((c.toNat : Nat) : Int) = c := by omega
  simp only [h5] at h4
  rw [zi_of h]
  exact h4
section MW6
variable {σ : Nat → Nat} {n0 : Nat} {bf : ab_B} {d : Nat} {Q : zs_Q} {m n : Nat} {A : Nat → Nat} {b : Nat → Int}
theorem r_readText_22 (hB : zt_B bf) (hd : 3 ≤ d) {p1 : Int32} {r0 : Nat} (hr0 : r0 ≤ 1300) (f : Nat) : ∀ {S : zs_T} {k c : Nat} {p2 : Int32}, mT n0 S m A n b → zs_I S 8010 m = 0 → (zs_I S 8005 m).toInt = k → k ≤ n → n < k + f → (zs_I S 8022 m).toInt = r0 → p2.toInt = r0 + c → c ≤ k →
    (∀ S1 k1 c1, lx_txt b f k c = some (k1, c1) → 1 ≤ c1 → c1 ≤ 80 → k < k1 → k1 ≤ n → mX m A S S1 [8005, 8006, 8009, 8021, 8023] → (zs_I S1 8006 m).toInt = 4 → (zs_I S1 8009 m).toInt = r0 → (zs_I S1 8023 m).toInt = c1 → (zs_I S1 8005 m).toInt = k1 → (∀ j, j < r0 + c → zs_i S1 (A 8021) j = zs_i S (A 8021) j) → (∀ j, j < (lx_txb b f k).length → (zs_i S1 (A 8021) (r0 + c + j) &&& 255).toInt = (lx_txb b f k).getD j 0) → Q (.returned none) S1) →
    (∀ S1, (∀ k1 c1, lx_txt b f k c = some (k1, c1) → c1 = 0 ∨ 80 < c1) → mX m A S S1 [8005, 8021, 8006, 8007, 8010, 8011] → zs_I S1 8010 m = 1 → zs_I S1 8011 m = p1 → (∀ j, j < r0 → zs_i S1 (A 8021) j = zs_i S (A 8021) j) → Q (.returned none) S1) →
    zs_U (zx σ n0 bf) d 8023 22 [(0, .ref m), (1, .int p1), (2, .int p2), (3, .int 1)] [] S Q := by
  induction f with
  | zero => intro S k c p2 W _ h1 h2 h3; omega
  | succ f ih =>
    intro S k c p2 W hf0 hk h2 h3 hroom hp2 hck hr ht
    have hs := W.small
    have hend := W.ends k
    have hend1 := W.ends (k + 1)
    have hrng := W.rng k
    have k49 : (∀ k1 c1, lx_txt b (f + 1) k c = some (k1, c1) → c1 = 0 ∨ 80 < c1) → w_X9_readText_49 (zx σ n0 bf) d m p1 S Q := by
      intro g
      refine ⟨W.R.K, r_bad hB (by omega) W.R hf0 ?_⟩
      intro S1 q1 q2 q3
      exact ht S1 g (q1.mk' rfl) q2 q3 (fun j _ => q1.i 8021 (by decide) j)
    -- one more byte
    have more : ∀ (p4 q : Int32) (k2 : Nat), p4.toInt = b k → b k ≠ -1 → ¬ (b k = 39 ∧ b (k + 1) ≠ 39) → ¬ b k < 32 → (zs_I S 8005 m + q).toInt = k2 → k2 = (if b k = 39 then k + 2 else k + 1) → w_X9_readText_104 (zx σ n0 bf) d m p1 p2 1 p4 (some m) (zs_I S 8005 m) q S Q := by
      intro p4 q k2 hp4 g1 g2 g3 hq hk2
      have hkk : k < k2 ∧ k2 ≤ n := by rw [hk2]; split <;> omega
      have hst : lx_txt b (f + 1) k c = lx_txt b f k2 (c + 1) := by rw [lx_txt, if_neg g1, if_neg g2, if_neg g3, hk2]
      have hsb : lx_txb b (f + 1) k = b k :: lx_txb b f k2 := by rw [lx_txb, if_neg g1, if_neg g2, if_neg g3, hk2]
      refine ⟨m, rfl, W.R.K, W.R.g, ?_⟩
      rintro _ rfl
      refine ⟨fun g9 => absurd g9 (by decide), fun _ => ⟨W.R.K, A 8021, by simpa [zs_rd] using W.R.r8021, zi_A W.R.k8021 (by omega) (by omega), W.R.ga _, ?_⟩⟩
      rintro _ rfl
      have e2 : p2.toNatClampNeg = r0 + c := by rw [zi_nat]; omega
      rw [e2]
      have X1 := ((mX.refl S).sI W.R (f := 8005) (v := zs_I S 8005 m + q)).si W.R (f := 8021) (k := r0 + c) (v := vp_nar .byte p4.toInt8.toInt32)
      generalize hS2 : zs_si (zs_sI S 8005 m (zs_I S 8005 m + q)) (A 8021) (r0 + c) (vp_nar .byte p4.toInt8.toInt32) = S2 at X1
      have f1 : (zs_I S2 8005 m).toInt = k2 := by rw [← hS2]; simp only [zs_rd, zs_rda, and_self, if_true]; exact hq
      have f2 : ∀ j, zs_i S2 (A 8021) j = if j = r0 + c then vp_nar .byte p4.toInt8.toInt32 else zs_i S (A 8021) j := by intro j; rw [← hS2]; simp [zs_rd, zs_rda]
      clear hS2
      refine ih (W.X X1 rfl) (by rw [X1.I 8010 (by decide)]; exact hf0) (k := k2) (c := c + 1) f1 hkk.2 (by omega) (by rw [X1.I 8022 (by decide)]; exact hroom) (by rw [zi_add] <;> simp only [zi_lit] <;> omega) (by omega) ?_ ?_
      · intro S1 k1 c1 q1 q2 q3 q4 q5 q6 q7 q8 q9 q10 q11 q12
        refine hr S1 k1 c1 (hst.trans q1) q2 q3 (by omega) q5 ((X1.trans q6).mk' rfl) q7 q8 q9 q10 ?_ ?_
        · intro j hj
          rw [q11 j (by omega), f2, if_neg (by omega)]
        · rw [hsb]
          intro j hj
          rw [List.length_cons] at hj
          match j with
          | 0 =>
            rw [q11 _ (by omega), f2, if_pos (by omega)]
            simp only [List.getD_cons_zero]
            exact zi_b255 hp4 (by omega) (by omega)
          | j + 1 =>
            simp only [List.getD_cons_succ]
            rw [← q12 j (by omega)]
            congr 3
            omega
      · intro S1 q1 q2 q3 q4 q5
        refine ht S1 (fun k1 c1 g8 => q1 k1 c1 (hst.symm.trans g8)) ((X1.trans q2).mk' rfl) q3 q4 ?_
        intro j hj
        rw [q5 j hj, f2, if_neg (by omega)]
    -- its end
    have fin : ∀ (p4 : Int32), b k = 39 → b (k + 1) ≠ 39 → p4.toInt = 39 → w_X9_readText_82 (zx σ n0 bf) d m p1 p2 p4 0 S Q := by
      intro p4 g1 g2 hp4
      have k103 : w_X9_readText_103 (zx σ n0 bf) d m p1 p2 0 p4 (some m) (zs_I S 8005 m) S Q := by
        refine ⟨m, rfl, W.R.K, W.R.g, ?_⟩
        rintro _ rfl
        refine ⟨fun _ => ?_, fun g9 => absurd rfl g9⟩
        have X1 := (mX.refl S).sI W.R (f := 8005) (v := zs_I S 8005 m + 1)
        have W1 := W.X X1 rfl
        have hst : lx_txt b (f + 1) k c = some (k + 1, c) := by rw [lx_txt, if_neg (by omega), if_pos ⟨g1, g2⟩]
        have hsb : lx_txb b (f + 1) k = [] := by rw [lx_txb, if_neg (by omega), if_pos ⟨g1, g2⟩]
        have e0 : zs_I (zs_sI S 8005 m (zs_I S 8005 m + 1)) 8022 m = zs_I S 8022 m := by simp [zs_rd]
        have kx : (c = 0 ∨ 80 < c) → w_X9_readText_146 (zx σ n0 bf) d m p1 (zs_sI S 8005 m (zs_I S 8005 m + 1)) Q := by
          intro g5
          refine ⟨W1.R.K, r_bad hB (by omega) W1.R (by simpa [zs_rd] using hf0) ?_⟩
          intro S1 q1 q2 q3
          refine ht S1 ?_ ((X1.trans q1).mk' rfl) q2 q3 (fun j _ => ?_)
          · intro k1 c1 g6
            rw [hst] at g6
            simp only [Option.some.injEq, Prod.mk.injEq] at g6
            omega
          · rw [q1.i 8021 (by decide)]; simp [zs_rd]
        refine u_X9_readText_22 hB ⟨fun _ => ⟨W1.R.K, ?_⟩, fun g9 => absurd rfl g9⟩
        rw [e0]
        have e80 : (zs_I S 8022 m + 80).toInt = r0 + 80 := by rw [zi_add] <;> simp only [zi_lit2] <;> omega
        refine ⟨fun g3 => kx ?_, fun g3 => ⟨fun g4 => ⟨W.R.g, ?_⟩, fun g4 => kx ?_⟩⟩ <;> (try simp only [zi_eq] at g3) <;> (try simp only [zi_le] at g4)
        · omega
        · rintro _ rfl _ rfl
          refine ⟨by simpa [zs_rd] using W.R.K, W.R.g, ?_⟩
          rintro _ rfl
          have X2 := (((((mX.refl S).sI W.R (f := 8005) (v := zs_I S 8005 m + 1)).sI W.R (f := 8006) (v := 4)).sI W.R (f := 8009) (v := zs_I S 8022 m)).sI W.R (f := 8023) (v := p2 - zs_I S 8022 m))
          have e1 : zs_I (zs_sI (zs_sI S 8005 m (zs_I S 8005 m + 1)) 8006 m 4) 8022 m = zs_I S 8022 m := by simp [zs_rd]
          have e2 : zs_I (zs_sI (zs_sI (zs_sI S 8005 m (zs_I S 8005 m + 1)) 8006 m 4) 8009 m (zs_I S 8022 m)) 8022 m = zs_I S 8022 m := by simp [zs_rd]
          rw [e1, e2]
          refine hr _ (k + 1) c hst (by omega) (by omega) (by omega) (by omega) (X2.mk' rfl) (by simp [zs_rd]) (by simp [zs_rd, hroom]) ?_ ?_ (fun j _ => by simp [zs_rd]) (fun j hj => by rw [hsb] at hj; simp at hj)
          · rw [show ∀ T : zs_T, zs_I (zs_sI T 8023 m (p2 - zs_I S 8022 m)) 8023 m = p2 - zs_I S 8022 m from fun T => by simp only [zs_rd, and_self, if_true], zi_sub] <;> omega
          · rw [show zs_I (zs_sI (zs_sI (zs_sI (zs_sI S 8005 m (zs_I S 8005 m + 1)) 8006 m 4) 8009 m (zs_I S 8022 m)) 8023 m (p2 - zs_I S 8022 m)) 8005 m = zs_I S 8005 m + 1 from by simp [zs_rd]]
            exact r_up hk (j := 1) rfl (by omega)
        · omega
      exact ⟨W.R.K, fun g9 => k103, fun g9 => ⟨fun _ => k103, fun g8 => absurd rfl g8⟩⟩
    refine u_X9_readText_22 hB ?_
    refine ⟨fun g => absurd g (by decide), fun _ => ⟨W.R.K, r_b0 hB (by omega) W hk ?_⟩⟩
    intro v hv
    have k77 : b k ≠ -1 → ¬ (b k = 39 ∧ b (k + 1) ≠ 39) → ¬ b k < 32 → w_X9_readText_77 (zx σ n0 bf) d m p1 p2 v S Q := by
      intro g1 g2 g3
      refine ⟨W.R.K, fun g9 => ?_, fun g9 => ⟨fun g8 => absurd g8 (by decide), fun _ => ?_⟩⟩ <;> simp only [zi_eq, zi_lit2, Classical.not_not] at g9
      · exact more v 1 (k + 1) hv g1 g2 g3 (r_up hk (j := 1) rfl (by omega)) (by rw [if_neg (by omega)])
      · exact more v 2 (k + 2) hv g1 g2 g3 (r_up hk (j := 2) rfl (by omega)) (by rw [if_pos (by omega)])
    refine ⟨fun g => k49 ?_, fun g => ⟨fun g1 => ⟨fun g2 => k77 ?_ ?_ ?_, fun g2 => ⟨W.R.K, r_b1 hB (by omega) W hk (by omega) ?_⟩⟩, fun g1 => k49 ?_⟩⟩ <;> (try simp only [zi_eq, zi_lit] at g) <;> (try simp only [zi_le, zi_lit2] at g1) <;> (try simp only [zi_eq, zi_lit2, Classical.not_not] at g2)
    · intro k1 c1 g5
      rw [lx_txt, if_pos (by omega)] at g5
      cases g5
    · omega
    · omega
    · omega
    · intro v3 hv3
      refine ⟨fun g3 => fin v ?_ ?_ ?_, fun g3 => k77 ?_ ?_ ?_⟩ <;> simp only [zi_eq, zi_lit2, Classical.not_not] at g3 <;> omega
    · intro k1 c1 g5
      rw [lx_txt, if_neg (by omega), if_neg (by omega), if_pos (by omega)] at g5
      cases g5
theorem r_readText (hB : zt_B bf) (hd : 4 ≤ d) {r0 : Nat} (hr0 : r0 ≤ 1300) (f : Nat) {S : zs_T} {k : Nat} (W : mT n0 S m A n b) (hf0 : zs_I S 8010 m = 0) (hk : (zs_I S 8005 m).toInt = k) (h2 : k + 1 ≤ n) (h3 : n < k + 1 + f) (hroom : (zs_I S 8022 m).toInt = r0) {K : zs_T → Prop}
    (hr : ∀ S1 k1 c1, lx_txt b f (k + 1) 0 = some (k1, c1) → 1 ≤ c1 → c1 ≤ 80 → k1 ≤ n → mX m A S S1 [8005, 8006, 8009, 8021, 8023] → (zs_I S1 8006 m).toInt = 4 → (zs_I S1 8009 m).toInt = r0 → (zs_I S1 8023 m).toInt = c1 → (zs_I S1 8005 m).toInt = k1 → (∀ j, j < r0 → zs_i S1 (A 8021) j = zs_i S (A 8021) j) → (∀ j, j < (lx_txb b f (k + 1)).length → (zs_i S1 (A 8021) (r0 + j) &&& 255).toInt = (lx_txb b f (k + 1)).getD j 0) → K S1)
    (ht : ∀ S1, (∀ k1 c1, lx_txt b f (k + 1) 0 = some (k1, c1) → c1 = 0 ∨ 80 < c1) → mX m A S S1 [8005, 8021, 8006, 8007, 8010, 8011] → zs_I S1 8010 m = 1 → (zs_I S1 8011 m).toInt = k → (∀ j, j < r0 → zs_i S1 (A 8021) j = zs_i S (A 8021) j) → K S1) :
    zs_C (zx σ n0 bf) d 8023 [.ref m] S (zs_kV K Q) := by
  refine u_X9_readText hB (by omega) ?_
  have hs := W.small
  refine ⟨W.R.K, W.R.g, ?_⟩
  rintro _ rfl
  have X1 := (mX.refl S).sI W.R (f := 8005) (v := zs_I S 8005 m + 1)
  refine r_readText_22 (r0 := r0) hB (by omega) hr0 f (W.X X1 rfl) (by simpa [zs_rd] using hf0) (k := k + 1) (c := 0) (by simp only [zs_rd, and_self, if_true]; exact r_up hk (j := 1) rfl (by omega)) h2 h3 (by simpa [zs_rd] using hroom) (by omega) (by omega) ?_ ?_
  · intro S1 k1 c1 q1 q2 q3 q4 q5 q6 q7 q8 q9 q10 q11 q12
    exact hr S1 k1 c1 q1 q2 q3 q5 ((X1.trans q6).mk' rfl) q7 q8 q9 q10 (fun j hj => by rw [q11 j (by omega)]; simp [zs_rd]) q12
  · intro S1 q1 q2 q3 q4 q5
    exact ht S1 q1 ((X1.trans q2).mk' rfl) q3 (by rw [q4]; exact hk) (fun j hj => by rw [q5 j hj]; simp [zs_rd])
end MW6
