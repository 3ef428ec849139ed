/-! THE COMPONENT'S WORDS, 5: numbers -/
def lx_cap : Int := 1099511627776
def lx_d10 (b : Nat → Int) : Nat → Nat → Int → Nat × Int
  | 0, k, v => (k, v)
  | f + 1, k, v => if 48 ≤ b k ∧ b k ≤ 57 then lx_d10 b f (k + 1) (min (10 * v + b k - 48) 1099511627776) else (k, v)
def lx_dB (b : Nat → Int) (base : Int) : Nat → Nat → Int → Nat × Int
  | 0, k, v => (k, v)
  | f + 1, k, v => if lx_dv (b k) < base then lx_dB b base f (k + 1) (min (base * v + lx_dv (b k)) 1099511627776) else (k, v)
/-- the end of a number: what may not be behind it -/
def lx_nend (b : Nat → Int) (q : Nat × Int) : Option (Nat × Int) := if q.2 > 2147483647 ∨ lx_dv (b q.1) < 99 then none else some q
def lx_num (b : Nat → Int) (f k : Nat) : Option (Nat × Int) :=
  if b (lx_d10 b f k 0).1 = 35 then (if 2 ≤ (lx_d10 b f k 0).2 ∧ (lx_d10 b f k 0).2 ≤ 36 ∧ lx_dv (b ((lx_d10 b f k 0).1 + 1)) < (lx_d10 b f k 0).2 then lx_nend b (lx_dB b (lx_d10 b f k 0).2 f ((lx_d10 b f k 0).1 + 1) 0) else none)
  else lx_nend b (lx_d10 b f k 0)
theorem zl_lit : (0 : Int64).toInt = 0 ∧ (10 : Int64).toInt = 10 ∧ (48 : Int64).toInt = 48 ∧ (99 : Int64).toInt = 99 ∧ (1099511627776 : Int64).toInt = 1099511627776 ∧ (2147483647 : Int64).toInt = 2147483647 := by decide
section CW5
variable {σ : Nat → Nat} {n0 : Nat} {bf : ab_B} {d : Nat} {S : zs_T} {Q : zs_Q} {w tp n le m : Nat} {b : Nat → Int}
/-- behind the digits: where it ends -/
theorem c_X6_number_176 (hB : zt_B bf) (L : zb (zx σ n0 bf) n0) (hd : 12 ≤ d) {k : Nat} {p1 : Int64} {v : Int} (W : cw_t n0 S w tp n b) (hw : w < zs_N S) (htp : tp ≠ w ∧ tp ≠ le) {p : Int} (hp : (zs_I S 5005 w).toInt = p) (hk : (zs_I S 5002 w).toInt = k) (hkn : k ≤ n) (hv : p1.toInt = v)
    (hr : ∀ S1, lx_nend b (k, v) = some (k, v) → cw_o S S1 w le m → (zs_I S1 5003 w) = (zs_I S 5003 w) → (zs_J S1 5007 w).toInt = v → (zs_I S1 5002 w).toInt = k → zs_I S1 5005 w = zs_I S 5005 w → Q (.returned none) S1)
    (ht : ∀ a S1, lx_nend b (k, v) = none → cw_x n0 S w le m p a S1 → Q (.threw a) S1) :
    w_X6_number_176 (zx σ n0 bf) d w p1 S Q := by
  have hcs := lx_c_spec b k
  have hdv := lx_dv_spec (b k)
  refine ⟨W.K, W.g, ?_⟩
  rintro _ rfl
  have O : cw_o S (zs_sJ S 5007 w p1) w le m := (cw_o.refl _ _ _ _).sJ
  have W1 : cw_t n0 (zs_sJ S 5007 w p1) w tp n b := W.o O htp.1 htp.2
  have hk1 : (zs_I (zs_sJ S 5007 w p1) 5002 w).toInt = k := by simpa [zs_rd] using hk
  have kx : lx_nend b (k, v) = none → w_X6_number_217 (zx σ n0 bf) d w (zs_sJ S 5007 w p1) Q := by
    intro g
    refine c_wfault hB L (by omega) W1.K W1.N (by simpa [zs_rd] using hw) (K := fun a S7 => Q (.threw a) S7) (p := p) (by simpa [zs_rd] using hp) ?_
    intro S1 h1
    exact ht _ S1 g ⟨_, O, h1⟩
  refine ⟨fun g => kx ?_, fun g => ?_⟩ <;> simp only [zl_lt, zl_lit] at g
  · rw [lx_nend, if_pos (.inl (by simp only; omega))]
  · refine c_b0 hB (by omega) W1 hk1 ?_
    intro v8 hv8
    refine c_X6_isLetter hB (by omega) ?_
    intro v10 hv10
    refine ⟨fun g1 => kx ?_, fun g1 => ⟨W1.K, ?_⟩⟩ <;> simp only [zi_eq, zi_lit, Classical.not_not] at g1
    · rw [lx_nend, if_pos (.inr (by simp only; omega))]
    · refine c_b0 hB (by omega) W1 hk1 ?_
      intro v14 hv14
      refine c_X6_isDigit hB (by omega) ?_
      intro v16 hv16
      refine ⟨fun g2 => ?_, fun g2 => kx ?_⟩ <;> simp only [zi_eq, zi_lit] at g2
      · exact hr _ (by rw [lx_nend, if_neg (by simp only; omega)]) O (by simp [zs_rd]) (by simp [zs_rd, hv]) hk1 (by simp [zs_rd])
      · rw [lx_nend, if_pos (.inr (by simp only; omega))]
/-- digits of a base -/
theorem c_X6_number_94 (hB : zt_B bf) (L : zb (zx σ n0 bf) n0) (hd : 12 ≤ d) (htp : tp ≠ w ∧ tp ≠ le) {p : Int} {p3 p4 : Int32} {k0 : Nat} (h3 : 0 ≤ p3.toInt ∧ p3.toInt ≤ 99) (h4 : p4.toInt = k0) (f : Nat) : ∀ {S : zs_T} {k : Nat} {p1 : Int64} {v : Int}, cw_t n0 S w tp n b → w < zs_N S → (zs_I S 5005 w).toInt = p → (zs_I S 5002 w).toInt = k → k ≤ n → n < k + f → p1.toInt = v → 0 ≤ v → v ≤ 1099511627776 → k0 ≤ k →
    (∀ S1 k1 v1, lx_dB b p3.toInt f k v = (k1, v1) → k1 ≤ n → k ≤ k1 → k1 ≠ k0 → 2 ≤ p3.toInt → p3.toInt ≤ 36 → lx_nend b (k1, v1) = some (k1, v1) → cw_o S S1 w le m → zs_I S1 5003 w = zs_I S 5003 w → (zs_J S1 5007 w).toInt = v1 → (zs_I S1 5002 w).toInt = k1 → zs_I S1 5005 w = zs_I S 5005 w → Q (.returned none) S1) →
    (∀ a S1 k1 v1, lx_dB b p3.toInt f k v = (k1, v1) → (k1 = k0 ∨ p3.toInt < 2 ∨ 36 < p3.toInt ∨ lx_nend b (k1, v1) = none) → cw_x n0 S w le m p a S1 → Q (.threw a) S1) →
    zs_U (zx σ n0 bf) d 5011 94 [(0, .ref w), (1, .long p1), (3, .int p3), (4, .int p4)] [] S Q := by
  induction f with
  | zero => intro S k p1 v W _ _ _ _ h3; omega
  | succ f ih =>
    intro S k p1 v W hw hp hk h2 hf hv hv0 hv1 hk0 hr ht
    have hs := W.small
    have hend := W.ends k
    have hcs := lx_c_spec b k
    have hdv := lx_dv_spec (b k)
    have hdc := lx_dv_spec (lx_c b k)
    have O : cw_o S S w le m := cw_o.refl _ _ _ _
    refine u_X6_number_94 hB ?_
    refine ⟨W.K, c_b0 hB (by omega) W hk ?_⟩
    intro v3 hv3
    refine c_X6_digit hB (by omega) ?_
    intro v5 hv5
    rw [hv3] at hv5
    refine ⟨fun g => ?_, fun g => ?_⟩ <;> simp only [zi_le] at g
    · have hst : lx_dB b p3.toInt (f + 1) k v = (k, v) := by rw [lx_dB, if_neg (by omega)]
      have kx : (k = k0 ∨ p3.toInt < 2 ∨ 36 < p3.toInt) → w_X6_number_163 (zx σ n0 bf) d w S Q := by
        intro g1
        refine c_wfault hB L (by omega) W.K W.N hw (K := fun a S7 => Q (.threw a) S7) hp ?_
        intro S1 h1
        exact ht _ S1 k v hst (by omega) ⟨_, O, h1⟩
      refine ⟨fun g1 => kx ?_, fun g1 => ⟨fun g2 => kx ?_, fun g2 => ⟨W.K, fun g3 => ?_, fun g3 => kx ?_⟩⟩⟩ <;> (try simp only [zi_lt, zi_eq, zi_lit, zi_lit2, Classical.not_not] at g1) <;> (try simp only [zi_lt, zi_eq, zi_lit, zi_lit2, Classical.not_not] at g2) <;> (try simp only [zi_lt, zi_eq, zi_lit, zi_lit2, Classical.not_not] at g3)
      · omega
      · omega
      · refine c_X6_number_176 (le := le) (m := m) hB L (by omega) W hw htp hp hk h2 hv ?_ ?_
        · intro S1 g5 g6 g7 g8 g9 g10
          exact hr S1 k v hst h2 (Nat.le_refl _) (by omega) (by omega) (by omega) g5 g6 g7 g8 g9 g10
        · intro a S1 g5 g6
          exact ht a S1 k v hst (.inr (.inr (.inr g5))) g6
      · omega
    · refine ⟨W.K, W.g, ?_⟩
      rintro _ rfl
      have W1 := W.sI (f := 5002) (v := zs_I S 5002 w + 1) (by decide)
      have e1 : (zs_I S 5002 w + 1).toInt = k + 1 := by rw [zi_add] <;> simp only [zi_lit] <;> omega
      refine c_X6_byteAt hB (by omega) W1 (by omega) ?_
      intro v17 hv17
      have e2 : (zs_I S 5002 w).toInt.toNat = k := by omega
      rw [e2] at hv17
      refine c_X6_digit hB (by omega) ?_
      intro v19 hv19
      rw [hv17] at hv19
      refine L.minJ (by omega) ?_
      have hb99 : p3.toInt * v ≤ 99 * 1099511627776 := Int.mul_le_mul h3.2 hv1 hv0 (by omega)
      have hb0 : 0 ≤ p3.toInt * v := Int.mul_nonneg h3.1 hv0
      have hdv0 : 0 ≤ lx_dv (b k) := by omega
      have e3 : (p3.toInt64 * p1).toInt = p3.toInt * v := by
        rw [zl_mul] <;> simp only [zl_i, hv]
        · omega
        · omega
      have e4 : (p3.toInt64 * p1 + v19.toInt64).toInt = p3.toInt * v + lx_dv (b k) := by
        rw [zl_add] <;> simp only [zl_i, e3] <;> omega
      have hst : lx_dB b p3.toInt (f + 1) k v = lx_dB b p3.toInt f (k + 1) (min (p3.toInt * v + lx_dv (b k)) 1099511627776) := by rw [lx_dB, if_pos (by omega)]
      refine ih W1 (by simpa [zs_rd] using hw) (by simpa [zs_rd] using hp) (k := k + 1) (v := min (p3.toInt * v + lx_dv (b k)) 1099511627776) (by simp only [zs_rd, and_self, if_true]; omega) (by omega) (by omega) ?_ (by omega) (by omega) (by omega) ?_ ?_
      · rw [zl_min, e4]
        simp only [zl_lit]
        split <;> omega
      · intro S1 k1 v1 g1 g2 g3 g4 g5 g6 g7 g8 g9 g10 g11 g12
        exact hr S1 k1 v1 (hst.trans g1) g2 (by omega) g4 g5 g6 g7 (((cw_o.refl _ _ _ _).sI (by omega) (by omega)).trans g8) (by rw [g9]; simp [zs_rd]) g10 g11 (by rw [g12]; simp [zs_rd])
      · intro a S1 k1 v1 g1 g2 g3
        obtain ⟨S2, g4, g5⟩ := g3
        exact ht a S1 k1 v1 (hst.trans g1) g2 ⟨S2, ((cw_o.refl _ _ _ _).sI (by omega) (by omega)).trans g4, g5⟩
/-- digits -/
theorem c_X6_number_7 (hB : zt_B bf) (L : zb (zx σ n0 bf) n0) (hd : 12 ≤ d) (htp : tp ≠ w ∧ tp ≠ le) {p : Int} {F kF : Nat} (hF : n < kF + F) (f : Nat) : ∀ {S : zs_T} {k : Nat} {p1 : Int64} {v : Int}, cw_t n0 S w tp n b → w < zs_N S → (zs_I S 5005 w).toInt = p → (zs_I S 5002 w).toInt = k → k ≤ n → n < k + f → kF ≤ k → p1.toInt = v → 0 ≤ v → v ≤ 1099511627776 →
    (∀ S1 k1 v1, (if b (lx_d10 b f k v).1 = 35 then (if 2 ≤ (lx_d10 b f k v).2 ∧ (lx_d10 b f k v).2 ≤ 36 ∧ lx_dv (b ((lx_d10 b f k v).1 + 1)) < (lx_d10 b f k v).2 then lx_nend b (lx_dB b (lx_d10 b f k v).2 F ((lx_d10 b f k v).1 + 1) 0) else none) else lx_nend b (lx_d10 b f k v)) = some (k1, v1) → k1 ≤ n → k ≤ k1 → cw_o S S1 w le m → zs_I S1 5003 w = zs_I S 5003 w → (zs_J S1 5007 w).toInt = v1 → (zs_I S1 5002 w).toInt = k1 → zs_I S1 5005 w = zs_I S 5005 w → Q (.returned none) S1) →
    (∀ a S1, (if b (lx_d10 b f k v).1 = 35 then (if 2 ≤ (lx_d10 b f k v).2 ∧ (lx_d10 b f k v).2 ≤ 36 ∧ lx_dv (b ((lx_d10 b f k v).1 + 1)) < (lx_d10 b f k v).2 then lx_nend b (lx_dB b (lx_d10 b f k v).2 F ((lx_d10 b f k v).1 + 1) 0) else none) else lx_nend b (lx_d10 b f k v)) = none → cw_x n0 S w le m p a S1 → Q (.threw a) S1) →
    zs_U (zx σ n0 bf) d 5011 7 [(0, .ref w), (1, .long p1)] [] S Q := by
  induction f with
  | zero => intro S k p1 v W _ _ _ _ h3; omega
  | succ f ih =>
    intro S k p1 v W hw hp hk h2 hf hkF hv hv0 hv1 hr ht
    have hs := W.small
    have hend := W.ends k
    have hcs := lx_c_spec b k
    refine u_X6_number_7 hB ?_
    refine ⟨W.K, c_b0 hB (by omega) W hk ?_⟩
    intro v3 hv3
    refine c_X6_isDigit hB (by omega) ?_
    intro v5 hv5
    refine ⟨fun g => ⟨W.K, c_b0 hB (by omega) W hk ?_⟩, fun g => ?_⟩ <;> simp only [zi_eq, zi_lit] at g
    · intro v9 hv9
      have hst : lx_d10 b (f + 1) k v = (k, v) := by rw [lx_d10, if_neg (by omega)]
      rw [hst] at hr ht
      refine ⟨fun g1 => ?_, fun g1 => ?_⟩ <;> simp only [zi_eq, zi_lit2, Classical.not_not] at g1
      · have hn35 : ¬ b k = 35 := by omega
        simp only [hn35, if_false] at hr ht
        refine c_X6_number_176 (le := le) (m := m) hB L (by omega) W hw htp hp hk h2 hv ?_ ?_
        · intro S1 g5 g6 g7 g8 g9 g10
          exact hr S1 k v g5 h2 (Nat.le_refl _) g6 g7 g8 g9 g10
        · intro a S1 g5 g6
          exact ht a S1 g5 g6
      · have h35 : b k = 35 := by omega
        simp only [h35, if_true] at hr ht
        refine L.minJ (by omega) ⟨W.K, W.g, ?_⟩
        rintro _ rfl
        have e1 : (zs_I S 5002 w + 1).toInt = k + 1 := by rw [zi_add] <;> simp only [zi_lit] <;> omega
        have em : (if p1 ≤ 99 then p1 else 99 : Int64).toInt = if v ≤ 99 then v else 99 := by rw [zl_min, hv]; rfl
        have em2 : (if p1 ≤ 99 then p1 else 99 : Int64).toInt32.toInt = if v ≤ 99 then v else 99 := by
          rw [zl_to] <;> rw [em] <;> split <;> omega
        have W1 := W.sI (f := 5002) (v := zs_I S 5002 w + 1) (by decide)
        have O1 : cw_o S (zs_sI S 5002 w (zs_I S 5002 w + 1)) w le m := (cw_o.refl _ _ _ _).sI (by omega) (by omega)
        refine c_X6_number_94 (le := le) (m := m) hB L (by omega) htp (p := p) (k0 := k + 1) (by rw [em2]; split <;> omega) e1 F W1 (by simpa [zs_rd] using hw) (by simpa [zs_rd] using hp) (k := k + 1) (v := 0) (by simp only [zs_rd, and_self, if_true]; omega) (by omega) (by omega) rfl (by omega) (by omega) (Nat.le_refl _) ?_ ?_
        · intro S1 k1 v1 g2 g3 g4 g5 g6 g7 g8 g9 g10 g11 g12 g13
          rw [em2] at g2 g6 g7
          have hv36 : 2 ≤ v ∧ v ≤ 36 := by
            split at g6 <;> split at g7 <;> omega
          rw [if_pos (by omega)] at g2
          have hdl : lx_dv (b (k + 1)) < v := by
            obtain ⟨F', rfl⟩ : ∃ F', F = F' + 1 := ⟨F - 1, by omega⟩
            rw [lx_dB] at g2
            split at g2
            · assumption
            · cases g2; exact absurd rfl g5
          refine hr S1 k1 v1 ?_ g3 (by omega) (O1.trans g9) (by rw [g10]; simp [zs_rd]) g11 g12 (by rw [g13]; simp [zs_rd])
          rw [if_pos ⟨hv36.1, hv36.2, hdl⟩, g2]
          exact g8
        · intro a S1 k1 v1 g2 g3 g4
          rw [em2] at g2 g3
          obtain ⟨S2, g5, g6⟩ := g4
          refine ht a S1 ?_ ⟨S2, O1.trans g5, g6⟩
          by_cases hq : 2 ≤ v ∧ v ≤ 36 ∧ lx_dv (b (k + 1)) < v
          · rw [if_pos hq]
            rw [if_pos (by omega)] at g2 g3
            rw [g2]
            rcases g3 with g3 | g3 | g3 | g3
            · exfalso
              obtain ⟨F', rfl⟩ : ∃ F', F = F' + 1 := ⟨F - 1, by omega⟩
              rw [lx_dB, if_pos hq.2.2] at g2
              have hmono : ∀ f2 k2 v2, k2 ≤ (lx_dB b v f2 k2 v2).1 := by
                intro f2
                induction f2 with
                | zero => intro k2 v2; exact Nat.le_refl _
                | succ f2 ih2 =>
                  intro k2 v2
                  rw [lx_dB]
                  split
                  · exact Nat.le_trans (by omega) (ih2 (k2 + 1) _)
                  · exact Nat.le_refl _
              have := hmono F' (k + 1 + 1) (min (v * 0 + lx_dv (b (k + 1))) 1099511627776)
              rw [g2] at this
              simp only at this
              omega
            · omega
            · omega
            · exact g3
          · rw [if_neg hq]
    · refine ⟨W.K, W.g, ?_⟩
      rintro _ rfl
      have W1 := W.sI (f := 5002) (v := zs_I S 5002 w + 1) (by decide)
      have e1 : (zs_I S 5002 w + 1).toInt = k + 1 := by rw [zi_add] <;> simp only [zi_lit] <;> omega
      refine c_X6_byteAt hB (by omega) W1 (by omega) ?_
      intro v17 hv17
      have e2 : (zs_I S 5002 w).toInt.toNat = k := by omega
      rw [e2] at hv17
      refine L.minJ (by omega) ?_
      have e3 : (10 * p1).toInt = 10 * v := by rw [zl_mul] <;> simp only [zl_lit, hv] <;> omega
      have e4 : (10 * p1 + v17.toInt64).toInt = 10 * v + b k := by rw [zl_add] <;> simp only [zl_i, e3] <;> omega
      have e5 : (10 * p1 + v17.toInt64 - 48).toInt = 10 * v + b k - 48 := by rw [zl_sub] <;> simp only [zl_lit, e4] <;> omega
      have hst : lx_d10 b (f + 1) k v = lx_d10 b f (k + 1) (min (10 * v + b k - 48) 1099511627776) := by rw [lx_d10, if_pos (by omega)]
      rw [hst] at hr ht
      refine ih W1 (by simpa [zs_rd] using hw) (by simpa [zs_rd] using hp) (k := k + 1) (v := min (10 * v + b k - 48) 1099511627776) (by simp only [zs_rd, and_self, if_true]; omega) (by omega) (by omega) (by omega) ?_ (by omega) (by omega) ?_ ?_
      · rw [zl_min, e5]
        simp only [zl_lit]
        split <;> omega
      · intro S1 k1 v1 g1 g2 g3 g8 g9 g10 g11 g12
        exact hr S1 k1 v1 g1 g2 (by omega) (((cw_o.refl _ _ _ _).sI (by omega) (by omega)).trans g8) (by rw [g9]; simp [zs_rd]) g10 g11 (by rw [g12]; simp [zs_rd])
      · intro a S1 g1 g3
        obtain ⟨S2, g4, g5⟩ := g3
        exact ht a S1 g1 ⟨S2, ((cw_o.refl _ _ _ _).sI (by omega) (by omega)).trans g4, g5⟩
theorem c_X6_number (hB : zt_B bf) (L : zb (zx σ n0 bf) n0) (hd : 13 ≤ d) (htp : tp ≠ w ∧ tp ≠ le) {p : Int} {f k : Nat} (W : cw_t n0 S w tp n b) (hw : w < zs_N S) (hp : (zs_I S 5005 w).toInt = p) (hk : (zs_I S 5002 w).toInt = k) (hkn : k ≤ n) (hf : n < k + f) {K : zs_T → Prop}
    (hr : ∀ S1 k1 v1, lx_num b f k = some (k1, v1) → k1 ≤ n → k ≤ k1 → cw_o S S1 w le m → (zs_I S1 5003 w).toInt = 1 → (zs_J S1 5007 w).toInt = v1 → (zs_I S1 5002 w).toInt = k1 → zs_I S1 5005 w = zs_I S 5005 w → K S1)
    (ht : ∀ a S1, lx_num b f k = none → cw_x n0 S w le m p a S1 → Q (.threw a) S1) :
    zs_C (zx σ n0 bf) d 5011 [.ref w] S (zs_kV K Q) := by
  refine u_X6_number hB (by omega) ?_
  refine ⟨W.K, W.g, ?_⟩
  rintro _ rfl
  have O1 : cw_o S (zs_sI S 5003 w 1) w le m := (cw_o.refl _ _ _ _).sI (by omega) (by omega)
  refine c_X6_number_7 (le := le) (m := m) hB L (by omega) htp (p := p) hf f (W.sI (by decide)) (by simpa [zs_rd] using hw) (by simpa [zs_rd] using hp) (k := k) (v := 0) (by simpa [zs_rd] using hk) hkn hf (Nat.le_refl _) rfl (by omega) (by omega) ?_ ?_
  · intro S1 k1 v1 g1 g2 g3 g4 g5 g6 g7 g8
    exact hr S1 k1 v1 g1 g2 g3 (O1.trans g4) (by rw [g5]; simp [zs_rd]) g6 g7 (by rw [g8]; simp [zs_rd])
  · intro a S1 g1 g2
    obtain ⟨S2, g4, g5⟩ := g2
    exact ht a S1 g1 ⟨S2, O1.trans g4, g5⟩
end CW5
