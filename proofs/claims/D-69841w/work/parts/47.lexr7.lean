/-! THE REFERENCE'S WORDS, 7: signs, the next word -/
theorem zi_lit3 : (5 : Int32).toInt = 5 ∧ (6 : Int32).toInt = 6 ∧ (7 : Int32).toInt = 7 ∧ (8 : Int32).toInt = 8 ∧ (11 : Int32).toInt = 11 ∧ (12 : Int32).toInt = 12 ∧ (14 : Int32).toInt = 14 ∧ (15 : Int32).toInt = 15 ∧ (16 : Int32).toInt = 16 ∧ (17 : Int32).toInt = 17 ∧ (18 : Int32).toInt = 18 ∧ (19 : Int32).toInt = 19 ∧ (21 : Int32).toInt = 21 := by decide
section MW7
variable {σ : Nat → Nat} {n0 : Nat} {bf : ab_B} {d : Nat} {Q : zs_Q} {m n : Nat} {A : Nat → Nat} {b : Nat → Int} {L : List (List Int)}
theorem r_readSign (hB : zt_B bf) (hd : 4 ≤ d) {S : zs_T} {k : Nat} (W : mT n0 S m A n b) (hf0 : zs_I S 8010 m = 0) (hk : (zs_I S 8005 m).toInt = k) (h2 : k < n) {K : zs_T → Prop}
    (hr : ∀ S1, lx_sgn (b k) (b (k + 1)) ≠ 0 → mX m A S S1 [8005, 8006, 8009] → (zs_I S1 8006 m).toInt = 5 → (zs_I S1 8009 m).toInt = lx_sr (lx_sgn (b k) (b (k + 1))) → (zs_I S1 8005 m).toInt = ((if lx_sgn (b k) (b (k + 1)) > 255 then k + 2 else k + 1 : Nat) : Int) → K S1)
    (ht : ∀ S1, lx_sgn (b k) (b (k + 1)) = 0 → mX m A S S1 [8009, 8006, 8007, 8010, 8011] → zs_I S1 8010 m = 1 → (zs_I S1 8011 m).toInt = k → K S1) :
    zs_C (zx σ n0 bf) d 8024 [.ref m] S (zs_kV K Q) := by
  have hs := W.small
  -- one byte
  have one : ∀ (q0 q1 : Int32), ¬ lx_sgn (b k) (b (k + 1)) > 255 → q1.toInt = (if lx_sgn (b k) (b (k + 1)) = 0 then 0 else lx_sr (lx_sgn (b k) (b (k + 1)))) → (lx_sgn (b k) (b (k + 1)) ≠ 0 → q1.toInt ≠ 0) → w_X9_readSign_315 (zx σ n0 bf) (d - 1) m (some m) q1 (zs_sI (zs_sI S 8006 m 5) 8009 m q0) (zs_kV K Q) := by
    intro q0 q1 g1 g2 g3
    have X1 := ((((mX.refl S).sI W.R (f := 8006) (v := 5)).sI W.R (f := 8009) (v := q0)).sI W.R (f := 8009) (v := q1))
    refine ⟨m, rfl, by simpa [zs_rd] using W.R.K, W.R.g, ?_⟩
    rintro _ rfl
    refine ⟨by simpa [zs_rd] using W.R.K, ?_⟩
    rw [show zs_I (zs_sI (zs_sI (zs_sI S 8006 m 5) 8009 m q0) 8009 m q1) 8009 m = q1 from by simp only [zs_rd, and_self, if_true]]
    refine ⟨fun g => ⟨W.R.g, ?_⟩, fun g => ?_⟩ <;> simp only [zi_eq, zi_lit, Classical.not_not] at g
    · rintro _ rfl
      have e0 : zs_I (zs_sI (zs_sI (zs_sI S 8006 m 5) 8009 m q0) 8009 m q1) 8005 m = zs_I S 8005 m := by simp [zs_rd]
      have hne : lx_sgn (b k) (b (k + 1)) ≠ 0 := fun g9 => by rw [if_pos g9] at g2; exact g g2
      rw [if_neg hne] at g2
      refine hr _ hne ((X1.sI W.R).mk' rfl) (by simp [zs_rd]) ?_ ?_
      · rw [← g2]; simp [zs_rd]
      · rw [show ∀ T : zs_T, zs_I (zs_sI T 8005 m (zs_I T 8005 m + 1)) 8005 m = zs_I T 8005 m + 1 from fun T => by simp only [zs_rd, and_self, if_true], e0, if_neg g1]
        exact r_up hk (j := 1) rfl (by omega)
    · have h0 : lx_sgn (b k) (b (k + 1)) = 0 := by
        by_cases g9 : lx_sgn (b k) (b (k + 1)) = 0
        · exact g9
        · exact absurd g (g3 g9)
      refine r_bad hB (by omega) (W.R.X X1) (by simpa [zs_rd] using hf0) ?_
      intro S1 q1 q2 q3
      refine ht S1 h0 ((X1.trans q1).mk' rfl) q2 ?_
      rw [q3, show zs_I (zs_sI (zs_sI (zs_sI S 8006 m 5) 8009 m q0) 8009 m _) 8005 m = zs_I S 8005 m from by simp [zs_rd]]
      exact hk
  -- two bytes
  have two : ∀ (p1 q0 q : Int32), lx_sgn (b k) (b (k + 1)) > 255 → q.toInt = lx_sr (lx_sgn (b k) (b (k + 1))) → q.toInt > 0 → w_X9_readSign_243 (zx σ n0 bf) (d - 1) m p1 q (zs_sI (zs_sI S 8006 m 5) 8009 m q0) (zs_kV K Q) := by
    intro p1 q0 q g1 g2 g3
    refine ⟨fun g => absurd (zi_le.mp g) (by simp only [zi_lit]; omega), fun _ => ⟨by simpa [zs_rd] using W.R.K, W.R.g, ?_⟩⟩
    rintro _ rfl _ rfl
    have X1 := ((((mX.refl S).sI W.R (f := 8006) (v := 5)).sI W.R (f := 8009) (v := q0)).sI W.R (f := 8009) (v := q))
    have e0 : zs_I (zs_sI (zs_sI (zs_sI S 8006 m 5) 8009 m q0) 8009 m q) 8005 m = zs_I S 8005 m := by simp [zs_rd]
    refine hr _ (by omega) ((X1.sI W.R).mk' rfl) (by simp [zs_rd]) (by rw [← g2]; simp [zs_rd]) ?_
    rw [show ∀ T : zs_T, zs_I (zs_sI T 8005 m (zs_I T 8005 m + 2)) 8005 m = zs_I T 8005 m + 2 from fun T => by simp only [zs_rd, and_self, if_true], e0, if_pos g1]
    exact r_up hk (j := 2) rfl (by omega)
  -- what stands for c alone
  have k243 : ∀ (p1 q0 : Int32), p1.toInt = b k → ¬ lx_sgn (b k) (b (k + 1)) > 255 → (b k ≠ 60 → b k ≠ 62 → b k ≠ 58 → b k ≠ 46 → q0.toInt = (if lx_sgn (b k) (b (k + 1)) = 0 then 0 else lx_sr (lx_sgn (b k) (b (k + 1))))) → (lx_sgn (b k) (b (k + 1)) ≠ 0 → b k ≠ 60 → b k ≠ 62 → b k ≠ 58 → b k ≠ 46 → q0.toInt ≠ 0) → (b k = 60 ∨ b k = 62 ∨ b k = 58 ∨ b k = 46 → lx_sgn (b k) (b (k + 1)) = b k) → w_X9_readSign_243 (zx σ n0 bf) (d - 1) m p1 0 (zs_sI (zs_sI S 8006 m 5) 8009 m q0) (zs_kV K Q) := by
    intro p1 q0 hp1 g1 g2 g3 g4
    refine ⟨fun _ => ?_, fun g => absurd (by decide) g⟩
    refine ⟨fun a1 => ⟨fun a2 => ⟨fun a3 => ⟨fun a4 => ⟨by simpa [zs_rd] using W.R.K, ?_⟩, fun a4 => ?_⟩, fun a3 => ?_⟩, fun a2 => ?_⟩, fun a1 => ?_⟩ <;> (try simp only [zi_eq, zi_lit2, Classical.not_not] at a1) <;> (try simp only [zi_eq, zi_lit2, Classical.not_not] at a2) <;> (try simp only [zi_eq, zi_lit2, Classical.not_not] at a3) <;> (try simp only [zi_eq, zi_lit2, Classical.not_not] at a4)
    · rw [show zs_I (zs_sI (zs_sI S 8006 m 5) 8009 m q0) 8009 m = q0 from by simp only [zs_rd, and_self, if_true]]
      exact one q0 q0 g1 (g2 (by omega) (by omega) (by omega) (by omega)) (fun g5 => g3 g5 (by omega) (by omega) (by omega) (by omega))
    · have e := g4 (by omega)
      exact one q0 16 g1 (by rw [e, if_neg (by omega)]; rw [show b k = 46 from by omega]; decide) (fun _ => by decide)
    · have e := g4 (by omega)
      exact one q0 14 g1 (by rw [e, if_neg (by omega)]; rw [show b k = 58 from by omega]; decide) (fun _ => by decide)
    · have e := g4 (by omega)
      exact one q0 7 g1 (by rw [e, if_neg (by omega)]; rw [show b k = 62 from by omega]; decide) (fun _ => by decide)
    · have e := g4 (by omega)
      exact one q0 6 g1 (by rw [e, if_neg (by omega)]; rw [show b k = 60 from by omega]; decide) (fun _ => by decide)
  -- both
  have k144 : ∀ (p1 p2 q0 : Int32), p1.toInt = b k → p2.toInt = b (k + 1) → (b k ≠ 60 → b k ≠ 62 → b k ≠ 58 → b k ≠ 46 → q0.toInt = lx_sr (b k) ∧ (q0.toInt = 0 → ¬ (b k = 43 ∨ b k = 45 ∨ b k = 42 ∨ b k = 61 ∨ b k = 40 ∨ b k = 41 ∨ b k = 91 ∨ b k = 93 ∨ b k = 44 ∨ b k = 59 ∨ b k = 94))) → w_X9_readSign_144 (zx σ n0 bf) (d - 1) m p1 p2 (some m) q0 (zs_sI S 8006 m 5) (zs_kV K Q) := by
    intro p1 p2 q0 hp1 hp2 hq0
    refine ⟨m, rfl, by simpa [zs_rd] using W.R.K, W.R.g, ?_⟩
    rintro _ rfl
    have tw : ∀ (q : Int32) (z : Int), lx_sgn (b k) (b (k + 1)) = z → z > 255 → q.toInt = lx_sr z → q.toInt > 0 → w_X9_readSign_243 (zx σ n0 bf) (d - 1) m p1 q (zs_sI (zs_sI S 8006 m 5) 8009 m q0) (zs_kV K Q) := fun q z e g1 g2 g3 => two p1 q0 q (by omega) (by rw [e]; exact g2) g3
    have on : ∀ (z : Int), lx_sgn (b k) (b (k + 1)) = z → z = b k → (b k = 60 ∨ b k = 62 ∨ b k = 58 ∨ b k = 46) → w_X9_readSign_243 (zx σ n0 bf) (d - 1) m p1 0 (zs_sI (zs_sI S 8006 m 5) 8009 m q0) (zs_kV K Q) := fun z e g1 g2 => k243 p1 q0 hp1 (by omega) (by omega) (by omega) (fun _ => by omega)
    refine ⟨fun a1 => ⟨fun a2 => ⟨fun a3 => ⟨fun a4 => ?_, fun a4 => ⟨fun c1 => ?_, fun c1 => ?_⟩⟩, fun a3 => ⟨fun c1 => ?_, fun c1 => ?_⟩⟩, fun a2 => ⟨fun c1 => ?_, fun c1 => ?_⟩⟩, fun a1 => ⟨fun c1 => ⟨fun c2 => ?_, fun c2 => ?_⟩, fun c1 => ?_⟩⟩ <;> (try simp only [zi_eq, zi_lit2, Classical.not_not] at a1) <;> (try simp only [zi_eq, zi_lit2, Classical.not_not] at a2) <;> (try simp only [zi_eq, zi_lit2, Classical.not_not] at a3) <;> (try simp only [zi_eq, zi_lit2, Classical.not_not] at a4) <;> (try simp only [zi_eq, zi_lit2, Classical.not_not] at c1) <;> (try simp only [zi_eq, zi_lit2, Classical.not_not] at c2)
    · have hq := hq0 (by omega) (by omega) (by omega) (by omega)
      have e : lx_sgn (b k) (b (k + 1)) = if b k = 43 ∨ b k = 45 ∨ b k = 42 ∨ b k = 61 ∨ b k = 60 ∨ b k = 62 ∨ b k = 40 ∨ b k = 41 ∨ b k = 91 ∨ b k = 93 ∨ b k = 44 ∨ b k = 59 ∨ b k = 58 ∨ b k = 94 ∨ b k = 46 then b k else 0 := by
        unfold lx_sgn
        rw [if_neg (by omega), if_neg (by omega), if_neg (by omega), if_neg (by omega), if_neg (by omega)]
      by_cases hy : b k = 43 ∨ b k = 45 ∨ b k = 42 ∨ b k = 61 ∨ b k = 60 ∨ b k = 62 ∨ b k = 40 ∨ b k = 41 ∨ b k = 91 ∨ b k = 93 ∨ b k = 44 ∨ b k = 59 ∨ b k = 58 ∨ b k = 94 ∨ b k = 46
      · rw [if_pos hy] at e
        have hrng := W.rng k
        refine k243 p1 q0 hp1 (by omega) (fun _ _ _ _ => ?_) (fun _ _ _ _ _ => ?_) (fun _ => e)
        · rw [e, if_neg (by omega)]; exact hq.1
        · intro g9; have := hq.2 g9; omega
      · rw [if_neg hy] at e
        refine k243 p1 q0 hp1 (by omega) (fun _ _ _ _ => ?_) (fun g9 => absurd e g9) (fun g9 => by omega)
        rw [e, if_pos rfl, hq.1]
        unfold lx_sr
        have hrng := W.rng k
        repeat rw [if_neg (by omega)]
    · exact on (b k) (by unfold lx_sgn; rw [if_neg (by omega), if_neg (by omega), if_neg (by omega), if_neg (by omega), if_neg (by omega), if_pos (by omega)]) rfl (by omega)
    · exact tw 21 260 (by unfold lx_sgn; rw [if_neg (by omega), if_neg (by omega), if_neg (by omega), if_neg (by omega), if_pos (by omega)]) (by decide) (by decide) (by decide)
    · exact on (b k) (by unfold lx_sgn; rw [if_neg (by omega), if_neg (by omega), if_neg (by omega), if_neg (by omega), if_neg (by omega), if_pos (by omega)]) rfl (by omega)
    · exact tw 20 259 (by unfold lx_sgn; rw [if_neg (by omega), if_neg (by omega), if_neg (by omega), if_pos (by omega)]) (by decide) (by decide) (by decide)
    · exact on (b k) (by unfold lx_sgn; rw [if_neg (by omega), if_neg (by omega), if_neg (by omega), if_neg (by omega), if_neg (by omega), if_pos (by omega)]) rfl (by omega)
    · exact tw 19 258 (by unfold lx_sgn; rw [if_neg (by omega), if_neg (by omega), if_pos (by omega)]) (by decide) (by decide) (by decide)
    · exact on (b k) (by unfold lx_sgn; rw [if_neg (by omega), if_neg (by omega), if_neg (by omega), if_neg (by omega), if_neg (by omega), if_pos (by omega)]) rfl (by omega)
    · exact tw 18 257 (by unfold lx_sgn; rw [if_neg (by omega), if_pos (by omega)]) (by decide) (by decide) (by decide)
    · exact tw 17 256 (by unfold lx_sgn; rw [if_pos (by omega)]) (by decide) (by decide) (by decide)
  refine u_X9_readSign hB (by omega) ?_
  refine ⟨W.R.K, r_b0 hB (by omega) W hk ?_⟩
  intro v hv
  refine ⟨W.R.K, r_b1 hB (by omega) W hk (by omega) ?_⟩
  intro v2 hv2
  refine ⟨W.R.K, W.R.g, ?_⟩
  rintro _ rfl
  have lit : ∀ (q0 : Int32) (z : Int), b k = z → q0.toInt = lx_sr z → q0.toInt ≠ 0 → w_X9_readSign_144 (zx σ n0 bf) (d - 1) m v v2 (some m) q0 (zs_sI S 8006 m 5) (zs_kV K Q) := fun q0 z e g1 g2 => k144 v v2 q0 hv hv2 (fun _ _ _ _ => ⟨by rw [e]; exact g1, fun g9 => absurd g9 g2⟩)
  refine ⟨fun a1 => ⟨fun a2 => ⟨fun a3 => ⟨fun a4 => ⟨fun a5 => ⟨fun a6 => ⟨fun a7 => ⟨fun a8 => ⟨fun a9 => ⟨fun a10 => ⟨fun a11 => ?_, fun a11 => lit 15 94 ?_ (by decide) (by decide)⟩, fun a10 => lit 13 59 ?_ (by decide) (by decide)⟩, fun a9 => lit 12 44 ?_ (by decide) (by decide)⟩, fun a8 => lit 11 93 ?_ (by decide) (by decide)⟩, fun a7 => lit 10 91 ?_ (by decide) (by decide)⟩, fun a6 => lit 9 41 ?_ (by decide) (by decide)⟩, fun a5 => lit 8 40 ?_ (by decide) (by decide)⟩, fun a4 => lit 5 61 ?_ (by decide) (by decide)⟩, fun a3 => lit 3 42 ?_ (by decide) (by decide)⟩, fun a2 => lit 2 45 ?_ (by decide) (by decide)⟩, fun a1 => lit 1 43 ?_ (by decide) (by decide)⟩
  · simp only [zi_eq, zi_lit2] at a1 a2 a3 a4 a5 a6 a7 a8 a9 a10 a11
    refine k144 v v2 0 hv hv2 (fun b1 b2 b3 b4 => ⟨?_, fun _ => by omega⟩)
    unfold lx_sr
    have hrng := W.rng k
    repeat rw [if_neg (by omega)]
    rfl
  · simp only [zi_eq, zi_lit2, Classical.not_not] at a11; omega
  · simp only [zi_eq, zi_lit2, Classical.not_not] at a10; omega
  · simp only [zi_eq, zi_lit2, Classical.not_not] at a9; omega
  · simp only [zi_eq, zi_lit2, Classical.not_not] at a8; omega
  · simp only [zi_eq, zi_lit2, Classical.not_not] at a7; omega
  · simp only [zi_eq, zi_lit2, Classical.not_not] at a6; omega
  · simp only [zi_eq, zi_lit2, Classical.not_not] at a5; omega
  · simp only [zi_eq, zi_lit2, Classical.not_not] at a4; omega
  · simp only [zi_eq, zi_lit2, Classical.not_not] at a3; omega
  · simp only [zi_eq, zi_lit2, Classical.not_not] at a2; omega
  · simp only [zi_eq, zi_lit2, Classical.not_not] at a1; omega
end MW7
