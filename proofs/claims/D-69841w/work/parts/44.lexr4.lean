/-! THE REFERENCE'S WORDS, 4: blanks, names, numbers -/
section MW
variable {σ : Nat → Nat} {n0 : Nat} {bf : ab_B} {d : Nat} {Q : zs_Q} {m n : Nat} {A : Nat → Nat} {b : Nat → Int} {L : List (List Int)}
/-- the next byte, and the one behind it -/
theorem r_b0 (hB : zt_B bf) (hd : 1 ≤ d) {S : zs_T} (W : mT n0 S m A n b) {k : Nat} (hk : (zs_I S 8005 m).toInt = k) {K : Int32 → zs_T → Prop} (h : ∀ v : Int32, v.toInt = b k → K v S) : zs_C (zx σ n0 bf) d 8006 [.ref m, .int (zs_I S 8005 m)] S (zs_kI K Q) := r_byteAt hB hd W hk h
theorem r_b1 (hB : zt_B bf) (hd : 1 ≤ d) {S : zs_T} (W : mT n0 S m A n b) {k : Nat} (hk : (zs_I S 8005 m).toInt = k) (hn : k ≤ n + 1) {K : Int32 → zs_T → Prop} (h : ∀ v : Int32, v.toInt = b (k + 1) → K v S) : zs_C (zx σ n0 bf) d 8006 [.ref m, .int (zs_I S 8005 m + 1)] S (zs_kI K Q) := by
  have hs := W.small
  refine r_byteAt hB hd W (k := k + 1) ?_ h
  rw [zi_add] <;> simp only [zi_lit] <;> omega
theorem r_up {S : zs_T} {k j : Nat} {q : Int32} (hk : (zs_I S 8005 m).toInt = k) (hq : q.toInt = j) (hs : k + j ≤ 100000) : (zs_I S 8005 m + q).toInt = ((k + j : Nat) : Int) := by
  rw [zi_add] <;> omega
/-- a note: from where p4 it began -/
theorem r_skip_112 (hB : zt_B bf) (hd : 3 ≤ d) {p1 p4 : Int32} (f : Nat) : ∀ {S : zs_T} {k : Nat}, mT n0 S m A n b → zs_I S 8010 m = 0 → (zs_I S 8005 m).toInt = k → k ≤ n → n < k + f →
    (∀ v k1, lx_note b f k = some k1 → k < k1 → k1 ≤ n → v.toInt = (k1 : Int) → zs_U (zx σ n0 bf) d 8015 2 [(0, .ref m), (1, .int p1)] [] (zs_sI S 8005 m v) Q) →
    (∀ S1, lx_note b f k = none → mX m A S S1 [8005, 8006, 8007, 8010, 8011] → zs_I S1 8010 m = 1 → zs_I S1 8011 m = p4 → Q (.returned (some (.int 0))) S1) →
    zs_U (zx σ n0 bf) d 8015 112 [(0, .ref m), (1, .int p1), (4, .int p4)] [] S Q := by
  induction f with
  | zero => intro S k W _ h1 h2 h3; omega
  | succ f ih =>
    intro S k W hf0 hk h2 h3 hr ht
    have hs := W.small
    have hend := W.ends k
    have hend1 := W.ends (k + 1)
    have k178 : (b k = -1 ∨ b k = 125 ∨ (b k = 42 ∧ b (k + 1) = 41)) → w_X9_skip_178 (zx σ n0 bf) d m p1 p4 S Q := by
      intro hc
      refine ⟨W.R.K, r_b0 hB (by omega) W hk ?_⟩
      intro v hv
      refine ⟨fun g => ⟨W.R.K, r_b0 hB (by omega) W hk ?_⟩, fun g => ⟨W.R.K, ?_⟩⟩ <;> simp only [zi_eq, zi_lit, Classical.not_not] at g
      · intro v7 hv7
        refine ⟨fun g2 => ?_, fun g2 => ?_⟩ <;> simp only [zi_eq, zi_lit2, Classical.not_not] at g2
        · refine ⟨m, rfl, W.R.K, W.R.g, ?_⟩
          rintro _ rfl
          exact hr _ (k + 2) (by rw [lx_note, if_neg (by omega), if_neg (by omega), if_pos (by omega)]) (by omega) (by omega) (r_up hk (j := 2) rfl (by omega))
        · refine ⟨m, rfl, W.R.K, W.R.g, ?_⟩
          rintro _ rfl
          exact hr _ (k + 1) (by rw [lx_note, if_neg (by omega), if_pos (by omega)]) (by omega) (by omega) (r_up hk (j := 1) rfl (by omega))
      · refine r_bad hB (by omega) W.R hf0 ?_
        intro S1 q1 q2 q3
        exact ht S1 (by rw [lx_note, if_pos (by omega)]) (q1.mk' rfl) q2 q3
    have k165 : b k ≠ -1 → b k ≠ 125 → ¬ (b k = 42 ∧ b (k + 1) = 41) → w_X9_skip_165 (zx σ n0 bf) d m p1 p4 S Q := by
      intro g1 g2 g3
      refine ⟨W.R.K, W.R.g, ?_⟩
      rintro _ rfl
      have X1 := (mX.refl S).sI W.R (f := 8005) (v := zs_I S 8005 m + 1)
      have hstep : lx_note b (f + 1) k = lx_note b f (k + 1) := by rw [lx_note, if_neg g1, if_neg g2, if_neg g3]
      refine ih (W.X X1 rfl) (by simpa [zs_rd] using hf0) (k := k + 1) (by simp only [zs_rd, and_self, if_true]; exact r_up hk (j := 1) rfl (by omega)) (by omega) (by omega) ?_ ?_
      · intro v k1 g4 g5 g6 g7
        rw [zs_sI2]
        exact hr v k1 (hstep.trans g4) (by omega) g6 g7
      · intro S1 g4 g5
        exact ht S1 (hstep.trans g4) ((X1.trans g5).mk' rfl)
    refine u_X9_skip_112 hB ?_
    refine ⟨W.R.K, r_b0 hB (by omega) W hk ?_⟩
    intro v hv
    refine ⟨fun g => k178 ?_, fun g => ⟨W.R.K, r_b0 hB (by omega) W hk ?_⟩⟩ <;> simp only [zi_eq, zi_lit] at g
    · omega
    · intro v7 hv7
      refine ⟨fun g2 => k178 ?_, fun g2 => ⟨W.R.K, r_b0 hB (by omega) W hk ?_⟩⟩ <;> simp only [zi_eq, zi_lit2] at g2
      · omega
      · intro v11 hv11
        refine ⟨fun g3 => k165 ?_ ?_ ?_, fun g3 => ⟨W.R.K, r_b1 hB (by omega) W hk (by omega) ?_⟩⟩ <;> simp only [zi_eq, zi_lit2, Classical.not_not] at g3
        · omega
        · omega
        · omega
        · intro v12 hv12
          refine ⟨fun g4 => k178 ?_, fun g4 => k165 ?_ ?_ ?_⟩ <;> simp only [zi_eq, zi_lit2] at g4 <;> omega
theorem r_skip_2 (hB : zt_B bf) (hd : 3 ≤ d) (f : Nat) : ∀ {S : zs_T} {k : Nat} {p1 : Int32}, mT n0 S m A n b → zs_I S 8010 m = 0 → (zs_I S 8005 m).toInt = k → k ≤ n → n < k + f → p1 ≠ 0 →
    (∀ v k1, lx_skip b f k = .ok k1 → k ≤ k1 → k1 ≤ n → v.toInt = (k1 : Int) → Q (.returned (some (.int 1))) (zs_sI S 8005 m v)) →
    (∀ S1 p, lx_skip b f k = .error p → mX m A S S1 [8005, 8006, 8007, 8010, 8011] → zs_I S1 8010 m = 1 → (zs_I S1 8011 m).toInt = p → Q (.returned (some (.int 0))) S1) →
    zs_U (zx σ n0 bf) d 8015 2 [(0, .ref m), (1, .int p1)] [] S Q := by
  induction f with
  | zero => intro S k p1 W _ h1 h2 h3; omega
  | succ f ih =>
    intro S k p1 W hf0 hk h2 h3 hp hr ht
    have hs := W.small
    have hend := W.ends k
    have hend1 := W.ends (k + 1)
    -- a note
    have kNote : ∀ (q p2 : Int32), q ≠ 0 → p2.toInt = b k → (b k = 123 ∨ b k = 40 ∧ b (k + 1) = 42) → w_X9_skip_81 (zx σ n0 bf) d m p2 1 q S Q := by
      intro q p2 hq hp2 g
      refine ⟨fun g9 => absurd g9 (by decide), fun _ => ⟨W.R.K, ?_⟩⟩
      have key : ∀ (j : Int32) (k2 : Nat), (zs_I S 8005 m + j).toInt = k2 → k2 = (if b k = 123 then k + 1 else k + 2) → zs_U (zx σ n0 bf) d 8015 112 [(0, .ref m), (1, .int q), (4, .int (zs_I S 8005 m))] [] (zs_sI S 8005 m (zs_I S 8005 m + j)) Q := by
        intro j k2 hj hk2
        have X1 := (mX.refl S).sI W.R (f := 8005) (v := zs_I S 8005 m + j)
        have hkk : k < k2 ∧ k2 ≤ n := by rw [hk2]; split <;> omega
        refine r_skip_112 hB hd f (W.X X1 rfl) (by simpa [zs_rd] using hf0) (k := k2) (by simp only [zs_rd, and_self, if_true]; exact hj) hkk.2 (by omega) ?_ ?_
        · intro v k1 g1 g2 g3 g4
          rw [zs_sI2]
          have X2 := (mX.refl S).sI W.R (f := 8005) (v := v)
          have hst : lx_skip b (f + 1) k = lx_skip b f k1 := by rw [lx_skip, if_pos g, ← hk2, g1]
          refine ih (W.X X2 rfl) (by simpa [zs_rd] using hf0) (k := k1) (by simp only [zs_rd, and_self, if_true]; exact g4) g3 (by omega) hq ?_ ?_
          · intro v4 k4 g5 g6 g7 g8
            rw [zs_sI2]
            exact hr v4 k4 (hst.trans g5) (by omega) g7 g8
          · intro S1 p g5 g6
            exact ht S1 p (hst.trans g5) ((X2.trans g6).mk' rfl)
        · intro S1 g1 g2 g3 g4
          exact ht S1 k (by rw [lx_skip, if_pos g, ← hk2, g1]) ((X1.trans g2).mk' rfl) g3 (by rw [g4]; exact hk)
      refine ⟨fun g5 => ⟨W.R.g, ?_⟩, fun g5 => ⟨W.R.g, ?_⟩⟩ <;> simp only [zi_eq, zi_lit2, Classical.not_not] at g5
      · rintro _ rfl
        exact key 2 (k + 2) (r_up hk (j := 2) rfl (by omega)) (by rw [if_neg (by omega)])
      · rintro _ rfl
        exact key 1 (k + 1) (r_up hk (j := 1) rfl (by omega)) (by rw [if_pos (by omega)])
    -- no note
    have k46 : ∀ (p2 : Int32), p2.toInt = b k → ¬ (b k = 123 ∨ b k = 40 ∧ b (k + 1) = 42) → w_X9_skip_47 (zx σ n0 bf) d m p2 0 S Q := by
      intro p2 hp2 g
      have kb : (b k = 9 ∨ b k = 10 ∨ b k = 13 ∨ b k = 32) → w_X9_skip_76 (zx σ n0 bf) d m p2 0 S Q := by
        intro g2
        refine ⟨fun _ => ⟨fun g9 => absurd g9 (by decide), fun _ => ⟨W.R.K, W.R.g, ?_⟩⟩, fun g9 => absurd rfl g9⟩
        rintro _ rfl
        have X1 := (mX.refl S).sI W.R (f := 8005) (v := zs_I S 8005 m + 1)
        have hst : lx_skip b (f + 1) k = lx_skip b f (k + 1) := by rw [lx_skip, if_neg g, if_pos g2]
        refine ih (W.X X1 rfl) (by simpa [zs_rd] using hf0) (k := k + 1) (by simp only [zs_rd, and_self, if_true]; exact r_up hk (j := 1) rfl (by omega)) (by omega) (by omega) (by decide) ?_ ?_
        · intro v4 k4 g5 g6 g7 g8
          rw [zs_sI2]
          exact hr v4 k4 (hst.trans g5) (by omega) g7 g8
        · intro S1 p g5 g6
          exact ht S1 p (hst.trans g5) ((X1.trans g6).mk' rfl)
      have ke : ¬ (b k = 9 ∨ b k = 10 ∨ b k = 13 ∨ b k = 32) → w_X9_skip_81 (zx σ n0 bf) d m p2 0 0 S Q := by
        intro g2
        refine ⟨fun _ => ⟨fun _ => ?_, fun g9 => absurd rfl g9⟩, fun g9 => absurd rfl g9⟩
        refine u_X9_skip_2 hB ⟨fun _ => ?_, fun g9 => absurd rfl g9⟩
        have := hr (zs_I S 8005 m) k (by rw [lx_skip, if_neg g, if_neg g2]) (Nat.le_refl _) h2 hk
        rwa [zs_sI0] at this
      refine ⟨fun g9 => absurd rfl g9, fun _ => ⟨fun g1 => kb ?_, fun g1 => ⟨fun g2 => kb ?_, fun g2 => ⟨fun g3 => kb ?_, fun g3 => ⟨fun g4 => ke ?_, fun g4 => kb ?_⟩⟩⟩⟩⟩ <;> (try simp only [zi_eq, zi_lit2, Classical.not_not] at g1) <;> (try simp only [zi_eq, zi_lit2, Classical.not_not] at g2) <;> (try simp only [zi_eq, zi_lit2, Classical.not_not] at g3) <;> (try simp only [zi_eq, zi_lit2, Classical.not_not] at g4) <;> omega
    have k42 : ∀ (p2 : Int32), p2.toInt = b k → (b k = 123 ∨ b k = 40 ∧ b (k + 1) = 42) → w_X9_skip_42 (zx σ n0 bf) d m p2 S Q := fun p2 hp2 g => ⟨fun _ => kNote 1 p2 (by decide) hp2 g, fun g9 => absurd (by decide) g9⟩
    refine u_X9_skip_2 hB ?_
    refine ⟨fun g => absurd g hp, fun _ => ⟨W.R.K, r_b0 hB (by omega) W hk ?_⟩⟩
    intro v hv
    refine ⟨fun g1 => k42 v hv ?_, fun g1 => ⟨fun g2 => k46 v hv ?_, fun g2 => ⟨W.R.K, r_b1 hB (by omega) W hk (by omega) ?_⟩⟩⟩ <;> (try simp only [zi_eq, zi_lit2, Classical.not_not] at g1) <;> (try simp only [zi_eq, zi_lit2, Classical.not_not] at g2)
    · omega
    · omega
    · intro v9 hv9
      refine ⟨fun g3 => k46 v hv ?_, fun g3 => k42 v hv ?_⟩ <;> simp only [zi_eq, zi_lit2, Classical.not_not] at g3 <;> omega
theorem r_skip (hB : zt_B bf) (hd : 4 ≤ d) (f : Nat) {S : zs_T} {k : Nat} (W : mT n0 S m A n b) (hf0 : zs_I S 8010 m = 0) (hk : (zs_I S 8005 m).toInt = k) (h2 : k ≤ n) (h3 : n < k + f) {K : Int32 → zs_T → Prop}
    (hr : ∀ v k1, lx_skip b f k = .ok k1 → k ≤ k1 → k1 ≤ n → v.toInt = (k1 : Int) → K 1 (zs_sI S 8005 m v))
    (ht : ∀ S1 p, lx_skip b f k = .error p → mX m A S S1 [8005, 8006, 8007, 8010, 8011] → zs_I S1 8010 m = 1 → (zs_I S1 8011 m).toInt = p → K 0 S1) :
    zs_C (zx σ n0 bf) d 8015 [.ref m] S (zs_kI K Q) :=
  u_X9_skip hB (by omega) (r_skip_2 hB (by omega) f W hf0 hk h2 h3 (by decide) hr ht)
/-- a name is read -/
theorem r_readName_2 (hB : zt_B bf) (hd : 3 ≤ d) {S : zs_T} {k0 : Nat} (W : mT n0 S m A n b) (N : mN S m A L) (hf0 : zs_I S 8010 m = 0) (hk : (zs_I S 8005 m).toInt = k0) (hkn : k0 ≤ n) (hbd : nm_off L L.length + 21 ≤ 33000 ∧ L.length + 1 ≤ 16600)
    (F : Nat) (hall : ∀ j, k0 ≤ j → j < lx_ne b F k0 → ((97 ≤ b j ∧ b j ≤ 122 ∨ 65 ≤ b j ∧ b j ≤ 90) ∨ (48 ≤ b j ∧ b j ≤ 57) ∨ b j = 95)) (hF : lx_ne b F k0 ≤ n)
    (hr : ∀ S1 x, lx_ne b F k0 ≤ k0 + 20 → x = lx_ltr b k0 (lx_ne b F k0 - k0) → mX m A S S1 [8005, 8006, 8009, 8020, 8015, 8016, 8017, 8018, 8019, 8013, 8014] → mN S1 m A (nm_enter L x).1 → (zs_I S1 8009 m).toInt = (nm_enter L x).2 + 1 → (zs_I S1 8006 m).toInt = (if (nm_enter L x).2 < 36 then 2 else 1) → (zs_I S1 8005 m).toInt = lx_ne b F k0 → (∀ j, j ≠ L.length + 1 → zs_i S1 (A 8019) j = zs_i S (A 8019) j) → ((nm_enter L x).1.length = L.length + 1 → zs_i S1 (A 8019) (L.length + 1) = 0) → ((nm_enter L x).1.length = L.length → ∀ j, zs_i S1 (A 8019) j = zs_i S (A 8019) j) → Q (.returned none) S1)
    (ht : ∀ S1, k0 + 20 < lx_ne b F k0 → mX m A S S1 [8006, 8007, 8010, 8011] → zs_I S1 8010 m = 1 → (zs_I S1 8011 m).toInt = k0 → Q (.returned none) S1) :
    ∀ (f c : Nat) {p1 : Int32}, p1.toInt = c → lx_ne b f (k0 + c) = lx_ne b F k0 → n < k0 + c + f → k0 + c ≤ n → zs_U (zx σ n0 bf) d 8019 2 [(0, .ref m), (1, .int p1)] [] S Q
  | 0, c, p1, h1, h2, h3, h4 => by omega
  | f + 1, c, p1, h1, h2, h3, h4 => by
    have hs := W.small
    have e1 : (zs_I S 8005 m + p1).toInt = ((k0 + c : Nat) : Int) := r_up hk h1 (by omega)
    have k49 : ((97 ≤ b (k0 + c) ∧ b (k0 + c) ≤ 122 ∨ 65 ≤ b (k0 + c) ∧ b (k0 + c) ≤ 90) ∨ (48 ≤ b (k0 + c) ∧ b (k0 + c) ≤ 57) ∨ b (k0 + c) = 95) → w_X9_readName_49 (zx σ n0 bf) d m p1 S Q := by
      intro hy
      have hend := W.ends (k0 + c)
      rw [lx_ne, if_pos hy] at h2
      have hkn2 : k0 + c < n := by clear hall hr ht; omega
      refine r_readName_2 hB hd W N hf0 hk hkn hbd F hall hF hr ht f (c + 1) (by rw [zi_add] <;> simp only [zi_lit] <;> omega) (by rw [← h2]; rfl) (by omega) (by omega)
    refine u_X9_readName_2 hB ?_
    refine ⟨W.R.K, r_byteAt hB (by omega) W e1 ?_⟩
    intro v3 hv3
    refine r_isLetter hB (by omega) ?_
    intro v5 hv5
    rw [hv3] at hv5
    refine ⟨fun g => k49 (.inl ?_), fun g => ⟨W.R.K, r_byteAt hB (by omega) W e1 ?_⟩⟩ <;> simp only [zi_eq, zi_lit, Classical.not_not] at g
    · clear hall hr ht k49; omega
    · have hq1 : ¬ (97 ≤ b (k0 + c) ∧ b (k0 + c) ≤ 122 ∨ 65 ≤ b (k0 + c) ∧ b (k0 + c) ≤ 90) := by clear hall hr ht k49; omega
      clear hv5
      intro v9 hv9
      refine r_isDigit hB (by omega) ?_
      intro v11 hv11
      rw [hv9] at hv11
      refine ⟨fun g1 => k49 (.inr (.inl ?_)), fun g1 => ⟨W.R.K, r_byteAt hB (by omega) W e1 ?_⟩⟩ <;> simp only [zi_eq, zi_lit, Classical.not_not] at g1
      · clear hall hr ht k49; omega
      · have hq2 : ¬ (48 ≤ b (k0 + c) ∧ b (k0 + c) ≤ 57) := by clear hall hr ht k49; omega
        clear hv11
        intro v15 hv15
        refine ⟨fun g2 => ?_, fun g2 => k49 (.inr (.inr ?_))⟩ <;> simp only [zi_eq, zi_lit2, Classical.not_not] at g2
        · have hq : ¬ ((97 ≤ b (k0 + c) ∧ b (k0 + c) ≤ 122 ∨ 65 ≤ b (k0 + c) ∧ b (k0 + c) ≤ 90) ∨ (48 ≤ b (k0 + c) ∧ b (k0 + c) ≤ 57) ∨ b (k0 + c) = 95) := by
            rintro (h | h | h)
            · exact hq1 h
            · exact hq2 h
            · exact g2 (hv15.trans h)
          rw [lx_ne, if_neg hq] at h2
          refine ⟨fun g3 => ⟨W.R.K, ?_⟩, fun g3 => ⟨W.R.K, ?_⟩⟩ <;> simp only [zi_le, zi_lit2] at g3
          · have hc : lx_ne b F k0 - k0 = c := by omega
            refine r_nameOf (x := lx_ltr b k0 c) hB (by omega) W N (.inl ⟨rfl, by rw [lx_ltr_len]; omega, fun j hj => ?_⟩) hk (by rw [lx_ltr_len]; exact h1) ?_ (by rw [lx_ltr_len]; omega) ?_
            · rw [lx_ltr_len] at hj
              rw [lx_ltr_at _ _ hj]
            · refine ⟨by rw [lx_ltr_len]; omega, ?_⟩
              intro c9 hc9
              obtain ⟨j, hj, rfl⟩ := List.getElem_of_mem hc9
              rw [lx_ltr_len] at hj
              have e2 := lx_ltr_at b k0 hj
              rw [List.getD, List.getElem?_eq_getElem (by rw [lx_ltr_len]; exact hj), Option.getD_some] at e2
              rw [e2]
              have := hall (k0 + j) (by omega) (by omega)
              clear hall hr ht k49 hq hq1 hq2
              unfold lx_small
              split <;> omega
            · intro S1 v q1 q2 q3 q4 q5 q6
              refine ⟨(q3.K m).trans W.R.K, W.R.g, ?_⟩
              rintro _ rfl
              have R1 := W.R.X q3
              refine ⟨by simpa [zs_rd] using R1.K, ?_⟩
              simp only [zs_rd, and_self, if_true]
              have fin : ∀ q : Int32, q.toInt = (if (nm_enter L (lx_ltr b k0 c)).2 < 36 then 2 else 1) → w_X9_readName_99 (zx σ n0 bf) d m p1 (some m) q (zs_sI S1 8009 m v) Q := by
                intro q hq9
                refine ⟨m, rfl, by simpa [zs_rd] using R1.K, W.R.g, ?_⟩
                rintro _ rfl
                refine ⟨by simpa [zs_rd] using R1.K, W.R.g, ?_⟩
                rintro _ rfl
                have X1 := ((((mX.refl S1).sI R1 (f := 8009) (v := v)).sI R1 (f := 8006) (v := q)).sI R1 (f := 8005) (v := zs_I (zs_sI (zs_sI S1 8009 m v) 8006 m q) 8005 m + p1))
                have e8 : zs_I (zs_sI (zs_sI S1 8009 m v) 8006 m q) 8005 m = zs_I S 8005 m := by
                  rw [show zs_I (zs_sI (zs_sI S1 8009 m v) 8006 m q) 8005 m = zs_I S1 8005 m from by simp [zs_rd]]
                  exact q3.I 8005 (by decide)
                refine hr _ (lx_ltr b k0 c) (by omega) (by rw [hc]) ((q3.trans X1).mk' rfl) (q1.X X1 rfl) ?_ ?_ ?_ ?_ ?_ ?_
                · simp [zs_rd, q2]
                · simp [zs_rd, hq9]
                · rw [show zs_I (zs_sI (zs_sI (zs_sI S1 8009 m v) 8006 m q) 8005 m (zs_I (zs_sI (zs_sI S1 8009 m v) 8006 m q) 8005 m + p1)) 8005 m = zs_I (zs_sI (zs_sI S1 8009 m v) 8006 m q) 8005 m + p1 from by simp only [zs_rd, and_self, if_true], e8, e1, h2]
                · intro j hj; rw [X1.i 8019 (by decide), q4 j hj]
                · intro g9; rw [X1.i 8019 (by decide), q6 g9]
                · intro g9 j; rw [X1.i 8019 (by decide), q5 g9]
              refine ⟨fun g4 => fin 1 ?_, fun g4 => fin 2 ?_⟩ <;> simp only [zi_lt, zi_lit2] at g4
              · rw [if_neg (by omega)]; rfl
              · rw [if_pos (by omega)]; rfl
          · refine r_bad hB (by omega) W.R hf0 ?_
            intro S1 q1 q2 q3
            exact ht S1 (by omega) q1 q2 (by rw [q3]; exact hk)
        · exact hv15.symm.trans g2
end MW
