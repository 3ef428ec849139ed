/-! THE COMPONENT'S WORDS, 3: blanks, names, numbers, texts, signs -/
section CW3
variable {σ : Nat → Nat} {n0 : Nat} {bf : ab_B} {d : Nat} {S : zs_T} {Q : zs_Q} {w tp n : Nat} {b : Nat → Int}
theorem cw_t.ends (W : cw_t n0 S w tp n b) (j : Nat) : b j = -1 ↔ n ≤ j := by rw [W.b]; exact lx_bt_end _ _ _
theorem cw_t.rng (W : cw_t n0 S w tp n b) (j : Nat) : -1 ≤ b j ∧ b j ≤ 255 := by rw [W.b]; exact lx_bt_rng _ _ _
theorem c_X6_note (hB : zt_B bf) (L : zb (zx σ n0 bf) n0) (hd : 12 ≤ d) {v : Int32} (f : Nat) {k : Nat} (W : cw_t n0 S w tp n b) (hv : v.toInt = k) (hk : k ≤ n) (hf : n < k + f) (h0 : 1 ≤ (zs_I S 5002 w).toInt) {K : zs_T → Prop}
    (hr : ∀ k1 v, lx_note b f k = some k1 → k < k1 → k1 ≤ n → v.toInt = (k1 : Int) → K (zs_sI S 5002 w v))
    (ht : ∀ a v S1, lx_note b f k = none → zft n0 (zs_sI S 5002 w v) 1 ((zs_I S 5002 w).toInt - 1) a S1 → Q (.threw a) S1) :
    zs_C (zx σ n0 bf) d 5007 [.ref w, .int v] S (zs_kV K Q) := by
  refine u_X6_note hB (by omega) ?_
  refine ⟨W.K, W.g, ?_⟩
  rintro _ rfl
  have e : (zs_I S 5002 w - 1).toInt = (zs_I S 5002 w).toInt - 1 := by
    have := zi_rng (zs_I S 5002 w)
    rw [zi_sub] <;> simp only [zi_lit] <;> omega
  refine c_X6_note_12 hB L (by omega) f (W.sI (by decide)) (k := k) (by simp only [zs_rd, and_self, if_true]; exact hv) hk hf ?_ ?_
  · intro k1 v g1 g2 g3 g4
    rw [zs_sI2]
    exact hr k1 v g1 g2 g3 g4
  · intro a v S1 g1 g2
    rw [zs_sI2, e] at g2
    exact ht a v S1 g1 g2
theorem c_X6_blanks_2 (hB : zt_B bf) (L : zb (zx σ n0 bf) n0) (hd : 12 ≤ d) (f : Nat) : ∀ {S : zs_T} {k : Nat} {p1 : Int32}, cw_t n0 S w tp n b → (zs_I S 5002 w).toInt = k → k ≤ n → n < k + f → p1 ≠ 0 →
    (∀ k1 v, lx_skip b f k = .ok k1 → k ≤ k1 → k1 ≤ n → v.toInt = (k1 : Int) → Q (.returned none) (zs_sI S 5002 w v)) →
    (∀ p a v S1, lx_skip b f k = .error p → zft n0 (zs_sI S 5002 w v) 1 p a S1 → Q (.threw a) S1) →
    zs_U (zx σ n0 bf) d 5005 2 [(0, .ref w), (1, .int p1)] [] S Q := by
  induction f with
  | zero => intro S k p1 W h1 h2 h3; omega
  | succ f ih =>
    intro S k p1 W hk h2 h3 hp hr ht
    have he := W.e
    have hs := W.small
    have hend := W.ends k
    have hend1 := W.ends (k + 1)
    have hrng := W.rng k
    have hcs := lx_c_spec b k
    have hcs1 := lx_c_spec b (k + 1)
    -- behind all blanks
    have kOk : ¬ (b k = 123 ∨ b k = 40 ∧ b (k + 1) = 42) → ¬ (b k = 9 ∨ b k = 10 ∨ b k = 13 ∨ b k = 32) → Q (.returned none) S := by
      intro g1 g2
      have := hr k (zs_I S 5002 w) (by simp [lx_skip, g1, g2]) (Nat.le_refl _) h2 hk
      rwa [zs_sI0] at this
    have hp1 : (zs_I S 5002 w + 1).toInt = k + 1 := by rw [zi_add] <;> simp only [zi_lit] <;> omega
    -- a note
    have kNote : ∀ (q : Int32) (p2 : Int32), q ≠ 0 → p2.toInt = b k → (b k = 123 ∨ b k = 40 ∧ b (k + 1) = 42) → w_X6_blanks_103 (zx σ n0 bf) d w p2 1 q S Q := by
      intro q p2 hq hp2 g
      refine ⟨fun _ => ⟨W.K, W.g, ?_⟩, fun g => absurd hq g⟩
      rintro _ rfl
      refine ⟨fun g => absurd g (by decide), fun _ => ?_⟩
      have key : ∀ (v : Int32) (k2 : Nat), v.toInt = k2 → k2 = (if b k = 123 then k + 1 else k + 2) → w_X6_blanks_143 (zx σ n0 bf) d w q (some w) v (zs_sI S 5002 w (zs_I S 5002 w + 1)) Q := by
        intro v k2 hv hk2
        have W1 := W.sI (f := 5002) (v := zs_I S 5002 w + 1) (by decide)
        have hkk : k < k2 ∧ k2 ≤ n := by rw [hk2]; split <;> omega
        refine ⟨w, rfl, W1.K, c_X6_note hB L (by omega) f W1 hv hkk.2 (by omega) (by simp only [zs_rd, and_self, if_true]; omega) ?_ ?_⟩
        · intro k3 v3 g1 g2 g3 g4
          rw [zs_sI2]
          have hst : lx_skip b (f + 1) k = lx_skip b f k3 := by
            rw [lx_skip, if_pos g, ← hk2, g1]
          refine ih (W.sI (by decide)) (k := k3) (by simp only [zs_rd, and_self, if_true]; exact g4) g3 (by omega) hq ?_ ?_
          · intro k4 v4 g5 g6 g7 g8
            rw [zs_sI2]
            exact hr k4 v4 (hst.trans g5) (by omega) g7 g8
          · intro p a v4 S1 g5 g6
            rw [zs_sI2] at g6
            exact ht p a v4 S1 (hst.trans g5) g6
        · intro a v3 S1 g1 g2
          rw [zs_sI2] at g2
          simp only [zs_rd, and_self, if_true] at g2
          have e : (zs_I S 5002 w + 1).toInt - 1 = ((k : Nat) : Int) := by omega
          rw [e] at g2
          exact ht k a v3 S1 (by rw [lx_skip, if_pos g, ← hk2, g1]) g2
      simp only [zs_rd, and_self, if_true]
      refine ⟨fun g5 => ?_, fun g5 => ?_⟩ <;> simp only [zi_eq, zi_lit2, Classical.not_not] at g5
      · exact key _ (k + 1) (by omega) (by rw [if_pos (by omega)])
      · refine key _ (k + 2) ?_ (by rw [if_neg (by omega)])
        rw [zi_add] <;> simp only [zi_lit] <;> omega
    -- a blank
    have kBl : ∀ (p2 : Int32), ¬ (b k = 123 ∨ b k = 40 ∧ b (k + 1) = 42) → (b k = 9 ∨ b k = 10 ∨ b k = 13 ∨ b k = 32) → w_X6_blanks_103 (zx σ n0 bf) d w p2 0 1 S Q := by
      intro p2 g1 g2
      refine ⟨fun _ => ⟨W.K, W.g, ?_⟩, fun g => absurd (by decide) g⟩
      rintro _ rfl
      refine ⟨fun _ => ?_, fun g => absurd rfl g⟩
      have hst : lx_skip b (f + 1) k = lx_skip b f (k + 1) := by rw [lx_skip, if_neg g1, if_pos g2]
      refine ih (W.sI (by decide)) (k := k + 1) (by simp only [zs_rd, and_self, if_true]; omega) (by omega) (by omega) (by decide) ?_ ?_
      · intro k4 v4 g5 g6 g7 g8
        rw [zs_sI2]
        exact hr k4 v4 (hst.trans g5) (by omega) g7 g8
      · intro p a v4 S1 g5 g6
        rw [zs_sI2] at g6
        exact ht p a v4 S1 (hst.trans g5) g6
    have k53 : ∀ (p2 : Int32), p2.toInt = b k → n > k → (b k = 123 ∨ b k = 40 ∧ b (k + 1) = 42) → w_X6_blanks_58 (zx σ n0 bf) d w p2 1 S Q := by
      intro p2 hp2 hn g
      refine ⟨W.K, fun g5 => ?_, fun g5 => ?_⟩ <;> simp only [zi_le] at g5
      · omega
      · have k94 : w_X6_blanks_94 (zx σ n0 bf) d w p2 1 S Q := ⟨fun g6 => absurd g6 (by decide), fun _ => kNote 1 p2 (by decide) hp2 g⟩
        have k98 : w_X6_blanks_98 (zx σ n0 bf) d w p2 1 S Q := kNote 1 p2 (by decide) hp2 g
        exact ⟨fun _ => k98, fun _ => ⟨fun _ => k98, fun _ => ⟨fun _ => k98, fun _ => ⟨fun _ => k98, fun _ => k94⟩⟩⟩⟩
    have k57 : ∀ (p2 : Int32), p2.toInt = lx_c b k → ¬ (b k = 123 ∨ b k = 40 ∧ b (k + 1) = 42) → w_X6_blanks_58 (zx σ n0 bf) d w p2 0 S Q := by
      intro p2 hp2 g
      have k94 : ¬ (b k = 9 ∨ b k = 10 ∨ b k = 13 ∨ b k = 32) → w_X6_blanks_94 (zx σ n0 bf) d w p2 0 S Q := fun g6 => ⟨fun _ => ⟨fun g7 => absurd rfl g7, fun _ => kOk g g6⟩, fun g7 => absurd rfl g7⟩
      have k98 : (b k = 9 ∨ b k = 10 ∨ b k = 13 ∨ b k = 32) → w_X6_blanks_98 (zx σ n0 bf) d w p2 0 S Q := fun g6 => kBl p2 g g6
      refine ⟨W.K, fun g5 => k94 ?_, fun g5 => ⟨fun g6 => k98 ?_, fun g6 => ⟨fun g7 => k98 ?_, fun g7 => ⟨fun g8 => k98 ?_, fun g8 => ⟨fun g9 => k98 ?_, fun g9 => k94 ?_⟩⟩⟩⟩⟩ <;> simp only [zi_le, zi_eq, zi_lit2] at * <;> omega
    refine u_X6_blanks_2 hB ?_
    refine ⟨fun g => absurd g hp, fun _ => ⟨W.K, c_b0 hB (by omega) W hk ?_⟩⟩
    intro v hv
    refine ⟨W.K, fun g => ?_, fun g => ?_⟩ <;> simp only [zi_le] at g
    · exact k57 v hv (by omega)
    · refine ⟨fun g1 => ?_, fun g1 => ?_⟩ <;> simp only [zi_eq, zi_lit2] at g1
      · exact k53 v (by omega) (by omega) (.inl (by omega))
      · refine ⟨fun g2 => ?_, fun g2 => ?_⟩ <;> simp only [zi_eq, zi_lit2, Classical.not_not] at g2
        · exact k57 v hv (by omega)
        · refine ⟨W.K, c_b1 hB (by omega) W hk (by omega) ?_⟩
          intro v2 hv2
          refine ⟨fun g3 => ?_, fun g3 => ?_⟩ <;> simp only [zi_eq, zi_lit2, Classical.not_not] at g3
          · exact k57 v hv (by omega)
          · exact k53 v (by omega) (by omega) (.inr (by omega))
theorem c_X6_blanks (hB : zt_B bf) (L : zb (zx σ n0 bf) n0) (hd : 13 ≤ d) (f : Nat) {k : Nat} (W : cw_t n0 S w tp n b) (hk : (zs_I S 5002 w).toInt = k) (h2 : k ≤ n) (h3 : n < k + f) {K : zs_T → Prop}
    (hr : ∀ k1 v, lx_skip b f k = .ok k1 → k ≤ k1 → k1 ≤ n → v.toInt = (k1 : Int) → K (zs_sI S 5002 w v))
    (ht : ∀ p a v S1, lx_skip b f k = .error p → zft n0 (zs_sI S 5002 w v) 1 p a S1 → Q (.threw a) S1) :
    zs_C (zx σ n0 bf) d 5005 [.ref w] S (zs_kV K Q) :=
  u_X6_blanks hB (by omega) (c_X6_blanks_2 hB L (by omega) f W hk h2 h3 (by decide) hr ht)
end CW3
