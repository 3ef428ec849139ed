/-! THE COMPONENT'S WORDS -/
/-- the text's byte at k: -1 behind its end -/
def lx_bt (f : Nat → Int32) (n k : Nat) : Int := if k < n then (f k &&& 255).toInt else -1
theorem lx_bt_rng (f : Nat → Int32) (n k : Nat) : -1 ≤ lx_bt f n k ∧ lx_bt f n k ≤ 255 := by
  unfold lx_bt
  have := zi_255 (f k)
  split <;> omega
theorem lx_bt_end (f : Nat → Int32) (n k : Nat) : lx_bt f n k = -1 ↔ n ≤ k := by
  unfold lx_bt
  have := zi_255 (f k)
  split <;> omega
/-- the component's own: 0 behind the end -/
def lx_c (b : Nat → Int) (k : Nat) : Int := if b k = -1 then 0 else b k
/-- behind a note that has begun -/
def lx_note (b : Nat → Int) : Nat → Nat → Option Nat
  | 0, _ => none
  | f + 1, k => if b k = -1 then none else if b k = 125 then some (k + 1) else if b k = 42 ∧ b (k + 1) = 41 then some (k + 2) else lx_note b f (k + 1)
/-- behind blanks and notes; a note without an end: where it begins -/
def lx_skip (b : Nat → Int) : Nat → Nat → Except Nat Nat
  | 0, k => .error k
  | f + 1, k =>
    if b k = 123 ∨ b k = 40 ∧ b (k + 1) = 42 then (match lx_note b f (if b k = 123 then k + 1 else k + 2) with
      | some k1 => lx_skip b f k1
      | none => .error k)
    else if b k = 9 ∨ b k = 10 ∨ b k = 13 ∨ b k = 32 then lx_skip b f (k + 1)
    else .ok k
/-- the Words w: its tape tp of n bytes, whose bytes are b -/
def cw_t (n0 : Nat) (S : zs_T) (w tp n : Nat) (b : Nat → Int) : Prop := (zs_K S w = some (.inl 5)) ∧ (n0 ≤ w) ∧ (zs_R S 5000 w = some tp) ∧ (∃ N, zs_K S tp = some (.inr (1, N)) ∧ n ≤ N) ∧ ((zs_I S 5001 w).toInt = n) ∧ (b = lx_bt (zs_i S tp) n) ∧ (n ≤ 32768) ∧ (n0 ≤ zs_N S)
theorem cw_t.K {n0 : Nat} {S : zs_T} {w tp n : Nat} {b : Nat → Int} (W : cw_t n0 S w tp n b) : zs_K S w = some (.inl 5) := W.1
theorem cw_t.g {n0 : Nat} {S : zs_T} {w tp n : Nat} {b : Nat → Int} (W : cw_t n0 S w tp n b) : n0 ≤ w := W.2.1
theorem cw_t.t {n0 : Nat} {S : zs_T} {w tp n : Nat} {b : Nat → Int} (W : cw_t n0 S w tp n b) : zs_R S 5000 w = some tp := W.2.2.1
theorem cw_t.T {n0 : Nat} {S : zs_T} {w tp n : Nat} {b : Nat → Int} (W : cw_t n0 S w tp n b) : ∃ N, zs_K S tp = some (.inr (1, N)) ∧ n ≤ N := W.2.2.2.1
theorem cw_t.e {n0 : Nat} {S : zs_T} {w tp n : Nat} {b : Nat → Int} (W : cw_t n0 S w tp n b) : (zs_I S 5001 w).toInt = n := W.2.2.2.2.1
theorem cw_t.b {n0 : Nat} {S : zs_T} {w tp n : Nat} {b : Nat → Int} (W : cw_t n0 S w tp n b) : b = lx_bt (zs_i S tp) n := W.2.2.2.2.2.1
theorem cw_t.small {n0 : Nat} {S : zs_T} {w tp n : Nat} {b : Nat → Int} (W : cw_t n0 S w tp n b) : n ≤ 32768 := W.2.2.2.2.2.2.1
theorem cw_t.N {n0 : Nat} {S : zs_T} {w tp n : Nat} {b : Nat → Int} (W : cw_t n0 S w tp n b) : n0 ≤ zs_N S := W.2.2.2.2.2.2.2
theorem cw_t.mk {n0 : Nat} {S : zs_T} {w tp n : Nat} {b : Nat → Int} (h0 : zs_K S w = some (.inl 5)) (h1 : n0 ≤ w) (h2 : zs_R S 5000 w = some tp) (h3 : ∃ N, zs_K S tp = some (.inr (1, N)) ∧ n ≤ N) (h4 : (zs_I S 5001 w).toInt = n) (h5 : b = lx_bt (zs_i S tp) n) (h6 : n ≤ 32768) (h7 : n0 ≤ zs_N S) : cw_t n0 S w tp n b := ⟨h0, h1, h2, h3, h4, h5, h6, h7⟩
theorem cw_t.sI {n0 : Nat} {S : zs_T} {w tp n : Nat} {b : Nat → Int} (W : cw_t n0 S w tp n b) {f : Nat} {v : Int32} (hf : f ≠ 5001) : cw_t n0 (zs_sI S f w v) w tp n b :=
  ⟨by simpa [zs_rd] using W.K, W.g, by simpa [zs_rd] using W.t, by simpa [zs_rd] using W.T, by simpa [zs_rd, Ne.symm hf] using W.e, W.b, W.small, by simpa [zs_rd] using W.N⟩
section CW
variable {σ : Nat → Nat} {n0 : Nat} {bf : ab_B} {d : Nat} {S : zs_T} {Q : zs_Q} {w tp n : Nat} {b : Nat → Int}
theorem c_X6_byteAt (hB : zt_B bf) (hd : 1 ≤ d) (W : cw_t n0 S w tp n b) {k : Int32} (hk : 0 ≤ k.toInt) (h : ∀ v : Int32, v.toInt = lx_c b k.toInt.toNat → Q (.returned (some (.int v))) S) : zs_C (zx σ n0 bf) d 5006 [.ref w, .int k] S Q := by
  refine u_X6_byteAt hB hd ?_
  have he := W.e
  have hb := W.b
  have hs := W.small
  obtain ⟨N, hT, hN⟩ := W.T
  refine ⟨W.K, fun h1 => ?_, fun h1 => ?_⟩
  · rw [zi_le] at h1
    refine h _ ?_
    rw [lx_c, hb, if_pos ((lx_bt_end _ _ _).mpr (by omega))]
    rfl
  · rw [zi_le] at h1
    refine ⟨tp, W.t, zi_A hT hk (by omega), h _ ?_⟩
    have hlt : k.toInt.toNat < n := by omega
    rw [lx_c, hb, if_neg (by rw [lx_bt_end]; omega), lx_bt, if_pos hlt, zi_nat]
/-- behind a note: the loop -/
theorem c_X6_note_12 (hB : zt_B bf) (L : zb (zx σ n0 bf) n0) (hd : 11 ≤ d) {p2 : Int32} (f : Nat) : ∀ {S : zs_T} {k : Nat}, cw_t n0 S w tp n b → (zs_I S 5002 w).toInt = k → k ≤ n → n < k + f →
    (∀ k1 v, lx_note b f k = some k1 → k < k1 → k1 ≤ n → v.toInt = (k1 : Int) → Q (.returned none) (zs_sI S 5002 w v)) →
    (∀ a v S1, lx_note b f k = none → zft n0 (zs_sI S 5002 w v) 1 p2.toInt a S1 → Q (.threw a) S1) →
    zs_U (zx σ n0 bf) d 5007 12 [(0, .ref w), (2, .int p2)] [] S Q := by
  induction f with
  | zero => intro S k W h1 h2 h3; omega
  | succ f ih =>
    intro S k W hk h2 h3 hr ht
    have he := W.e
    have hs := W.small
    have hend : ∀ j, b j = -1 ↔ n ≤ j := fun j => by rw [W.b]; exact lx_bt_end _ _ _
    have hrng : ∀ j, -1 ≤ b j ∧ b j ≤ 255 := fun j => by rw [W.b]; exact lx_bt_rng _ _ _
    have h1 : ∀ v, b k ≠ -1 → (b k = 125 → v.toInt = ((k + 1 : Nat) : Int)) → (b k ≠ 125 → b k = 42 ∧ b (k + 1) = 41 ∧ v.toInt = ((k + 2 : Nat) : Int)) → Q (.returned none) (zs_sI S 5002 w v) := by
      intro v g1 g2 g3
      by_cases g4 : b k = 125
      · exact hr (k + 1) v (by simp [lx_note, g1, g4]) (by omega) (by have := hend k; omega) (g2 g4)
      · obtain ⟨g5, g6, g7⟩ := g3 g4
        refine hr (k + 2) v (by simp [lx_note, g4, g5, g6]) (by omega) ?_ g7
        have := hend (k + 1)
        omega
    have k77 : (n ≤ k ∨ b k = 125 ∨ (b k = 42 ∧ b (k + 1) = 41)) → w_X6_note_77 (zx σ n0 bf) d w p2 S Q := by
      intro hc
      refine ⟨W.K, fun g => ?_, fun g => ?_⟩
      · rw [zi_lt] at g
        have hkn : b k ≠ -1 := fun g5 => by have := (hend k).mp g5; omega
        refine c_X6_byteAt hB (by omega) W (by omega) ?_
        intro v hv
        have e1 : (zs_I S 5002 w).toInt.toNat = k := by omega
        rw [e1, lx_c, if_neg hkn] at hv
        refine ⟨fun g6 => ?_, fun g6 => ?_⟩
        · rw [zi_eq] at g6
          refine ⟨W.K, W.g, ?_⟩
          rintro _ rfl
          refine h1 _ hkn (fun g7 => absurd (hv.trans g7) g6) (fun g7 => ⟨?_, ?_, ?_⟩)
          · omega
          · omega
          · rw [zi_add] <;> simp <;> omega
        · rw [zi_eq, Classical.not_not] at g6
          refine ⟨W.K, W.g, ?_⟩
          rintro _ rfl
          refine h1 _ hkn (fun g7 => ?_) (fun g7 => absurd (hv.symm.trans g6) g7)
          rw [zi_add] <;> simp <;> omega
      · rw [zi_lt] at g
        rintro _ _ rfl rfl
        refine c_fault hB L hd W.N ?_
        intro S1 hS1
        refine ht _ (zs_I S 5002 w) S1 ?_ ?_
        · have : b k = -1 := (hend k).mpr (by omega)
          simp [lx_note, this]
        · rw [zs_sI0]; exact hS1
    have k64 : b k ≠ -1 → b k ≠ 125 → ¬ (b k = 42 ∧ b (k + 1) = 41) → w_X6_note_64 (zx σ n0 bf) d w p2 S Q := by
      intro g1 g2 g3
      refine ⟨W.K, W.g, ?_⟩
      rintro _ rfl
      have hkn : ¬ n ≤ k := fun g5 => g1 ((hend k).mpr g5)
      have hstep : lx_note b (f + 1) k = lx_note b f (k + 1) := by simp [lx_note, g1, g2, g3]
      refine ih (W.sI (by decide)) (k := k + 1) ?_ (by omega) (by omega) ?_ ?_
      · simp only [zs_rd, and_self, if_true]
        rw [zi_add] <;> simp <;> omega
      · intro k1 v g4 g5 g6 g7
        rw [zs_sI2]
        exact hr k1 v (hstep.trans g4) (by omega) g6 g7
      · intro a v S1 g4 g5
        rw [zs_sI2] at g5
        exact ht a v S1 (hstep.trans g4) g5
    have e1 : (zs_I S 5002 w).toInt.toNat = k := by omega
    refine u_X6_note_12 hB ?_
    refine ⟨W.K, fun g => ?_, fun g => ?_⟩
    · rw [zi_le] at g
      exact k77 (.inl (by omega))
    · rw [zi_le] at g
      have hkn : b k ≠ -1 := fun g5 => by have := (hend k).mp g5; omega
      refine c_X6_byteAt hB (by omega) W (by omega) ?_
      intro v hv
      rw [e1, lx_c, if_neg hkn] at hv
      refine ⟨fun g6 => ?_, fun g6 => ?_⟩
      · rw [zi_eq] at g6
        exact k77 (.inr (.inl (hv.symm.trans g6)))
      · rw [zi_eq] at g6
        have g7 : b k ≠ 125 := fun g7 => g6 (hv.trans g7)
        refine ⟨W.K, c_X6_byteAt hB (by omega) W (by omega) ?_⟩
        intro v hv
        rw [e1, lx_c, if_neg hkn] at hv
        refine ⟨fun g8 => ?_, fun g8 => ?_⟩
        · rw [zi_eq] at g8
          exact k64 hkn g7 (fun g9 => g8 (hv.trans g9.1))
        · rw [zi_eq, Classical.not_not] at g8
          have g9 : b k = 42 := hv.symm.trans g8
          refine ⟨W.K, c_X6_byteAt hB (by omega) W (by rw [zi_add] <;> simp <;> omega) ?_⟩
          intro v2 hv2
          have e2 : (zs_I S 5002 w + 1).toInt.toNat = k + 1 := by rw [zi_add] <;> simp <;> omega
          rw [e2] at hv2
          refine ⟨fun g10 => ?_, fun g10 => ?_⟩
          · rw [zi_eq] at g10
            have g11 : lx_c b (k + 1) = 41 := hv2.symm.trans g10
            refine k77 (.inr (.inr ⟨g9, ?_⟩))
            unfold lx_c at g11
            split at g11 <;> omega
          · rw [zi_eq] at g10
            refine k64 hkn g7 (fun g11 => g10 (hv2.trans ?_))
            rw [lx_c, if_neg (by omega)]
            exact g11.2
end CW
