/-! THE COMPONENT'S WORDS, 6: names, the next word -/
/-- behind a name -/
def lx_ne (b : Nat → Int) : Nat → Nat → Nat
  | 0, k => k
  | f + 1, k => if (97 ≤ b k ∧ b k ≤ 122 ∨ 65 ≤ b k ∧ b k ≤ 90) ∨ (48 ≤ b k ∧ b k ≤ 57) ∨ b k = 95 then lx_ne b f (k + 1) else k
def lx_small (c : Int) : Int := if 65 ≤ c ∧ c ≤ 90 then c + 32 else c
/-- the letters from k on, m of them -/
def lx_ltr (b : Nat → Int) (k : Nat) : Nat → List Int
  | 0 => []
  | m + 1 => lx_ltr b k m ++ [lx_small (b (k + m))]
theorem lx_ltr_len (b : Nat → Int) (k : Nat) : ∀ m, (lx_ltr b k m).length = m
  | 0 => rfl
  | m + 1 => by rw [lx_ltr, List.length_append, lx_ltr_len b k m]; rfl
theorem lx_ltr_at (b : Nat → Int) (k : Nat) : ∀ {m j : Nat}, j < m → (lx_ltr b k m).getD j 0 = lx_small (b (k + j))
  | 0, _, h => by omega
  | m + 1, j, h => by
    have hl := lx_ltr_len b k m
    rw [lx_ltr, List.getD, List.getElem?_append]
    by_cases hj : j < m
    · rw [if_pos (by omega)]
      exact lx_ltr_at b k hj
    · have : j = m := by omega
      subst this
      rw [if_neg (by omega), hl]
      simp
theorem lx_ne_spec (b : Nat → Int) : ∀ (f k : Nat), k ≤ lx_ne b f k ∧ ∀ j, k ≤ j → j < lx_ne b f k → ((97 ≤ b j ∧ b j ≤ 122 ∨ 65 ≤ b j ∧ b j ≤ 90) ∨ (48 ≤ b j ∧ b j ≤ 57) ∨ b j = 95)
  | 0, k => ⟨Nat.le_refl _, fun j h1 h2 => by simp only [lx_ne] at h2; omega⟩
  | f + 1, k => by
    have ih := lx_ne_spec b f (k + 1)
    rw [lx_ne]
    split
    · rename_i h
      refine ⟨by omega, fun j h1 h2 => ?_⟩
      by_cases e : j = k
      · subst e; exact h
      · exact ih.2 j (by omega) h2
    · exact ⟨Nat.le_refl _, fun j h1 h2 => by omega⟩
theorem zi_byte {v : Int32} {c : Int} (h : v.toInt = c) (h1 : 0 ≤ c) (h2 : c ≤ 127) : (vp_nar .byte v.toInt8.toInt32).toInt = c := by
  have h3 : ∀ k : Fin 128, (vp_nar .byte (Int32.ofInt (k.val : Int)).toInt8.toInt32).toInt = (k.val : Int) := by decide +kernel
  have h4 := h3 ⟨c.toNat, by omega⟩
  have h5 : ((c.toNat : Nat) : Int) = c := by omega
  simp only [h5] at h4
  rw [zi_of h]
  exact h4
theorem zf_at_sym {S S1 : zs_T} {a : Nat} (h : zf_at S S1 a) : zf_at S1 S a := ⟨h.1.symm, fun f => (h.2.1 f).symm, fun f => (h.2.2.1 f).symm, fun f => (h.2.2.2.1 f).symm, fun f => (h.2.2.2.2.1 f).symm, fun f => (h.2.2.2.2.2.1 f).symm, fun f => (h.2.2.2.2.2.2 f).symm⟩
section CW6
variable {σ : Nat → Nat} {n0 : Nat} {bf : ab_B} {d : Nat} {S : zs_T} {Q : zs_Q} {w tp n le st nx ch m : Nat} {b : Nat → Int} {L : List (List Int)}
theorem cw_n.o {S1 : zs_T} (W : cw_n n0 S w le st nx ch L) (h : cw_o S S1 w le (nm_off L L.length)) : cw_n n0 S1 w le st nx ch L := by
  obtain ⟨n1, n2, n3, n4, n5, n6, n7, n8, n9, n10⟩ := W.ne
  have hs := h.at' st (Ne.symm n8) (Ne.symm n1)
  have hx := h.at' nx (Ne.symm n9) (Ne.symm n2)
  have hc := h.at' ch (Ne.symm n10) (Ne.symm n3)
  refine ⟨(h.K _).trans W.K, W.g, (h.R _).trans W.Rl, (h.R _).trans W.Rs, (h.R _).trans W.Rn, (h.R _).trans W.Rc, (h.K _).trans W.Kl, (h.K _).trans W.Ks, (h.K _).trans W.Kn, (h.K _).trans W.Kc, W.gl, W.ne, ?_, ?_, ?_, ?_, ?_, W.okn, W.bd⟩
  · rw [h.I 5012 (by omega)]; exact W.nn
  · intro i hi; rw [hs.2.2.2.2.1]; exact W.off i hi
  · intro i j hi hj
    rw [h.lo _ (by have := nm_off_in (L := L) hi; omega)]
    exact W.ltr i j hi hj
  · intro g hg; rw [hc.2.2.2.2.1]; exact W.chn g hg
  · intro i hi; rw [hx.2.2.2.2.1]; exact W.nxt i hi
/-- letters, as long as there are some -/
theorem c_X6_name_2 (hB : zt_B bf) (Lb : zb (zx σ n0 bf) n0) (hd : 12 ≤ d) (htp : tp ≠ w ∧ tp ≠ le) {p : Int} {k0 : Nat} (hk0 : n ≤ 32768) (hbd : nm_off L L.length + 21 ≤ 33000 ∧ L.length + 1 ≤ 16600) (f : Nat) : ∀ {S : zs_T} {k c : Nat} {p1 : Int32}, cw_t n0 S w tp n b → cw_n n0 S w le st nx ch L → w < zs_N S → (zs_I S 5005 w).toInt = p → (zs_I S 5002 w).toInt = k → k ≤ n → n < k + f → p1.toInt = c → k = k0 + c → (∀ j, j < c → ((97 ≤ b (k0 + j) ∧ b (k0 + j) ≤ 122 ∨ 65 ≤ b (k0 + j) ∧ b (k0 + j) ≤ 90) ∨ (48 ≤ b (k0 + j) ∧ b (k0 + j) ≤ 57) ∨ b (k0 + j) = 95)) → (∀ j, j < c → j < 20 → (zs_i S le (nm_off L L.length + j)).toInt = lx_small (b (k0 + j))) →
    (∀ S1 S2 x, lx_ne b f k ≤ n → k ≤ lx_ne b f k → lx_ne b f k ≤ k0 + 20 → x = lx_ltr b k0 (lx_ne b f k - k0) → cw_o S S2 w le (nm_off L L.length) → cw_nf S2 S1 w st nx ch → cw_n n0 S1 w le st nx ch (nm_enter L x).1 → (zs_I S1 5003 w).toInt = 0 → (zs_I S1 5004 w).toInt = (nm_enter L x).2 → (zs_I S1 5002 w).toInt = lx_ne b f k → zs_I S1 5005 w = zs_I S 5005 w → Q (.returned none) S1) →
    (∀ a S1, k0 + 20 < lx_ne b f k → cw_x n0 S w le (nm_off L L.length) p a S1 → Q (.threw a) S1) →
    zs_U (zx σ n0 bf) d 5009 2 [(0, .ref w), (1, .int p1)] [] S Q := by
  induction f with
  | zero => intro S k c p1 W _ _ _ _ _ h3; omega
  | succ f ih =>
    intro S k c p1 W WN hw hp hk h2 hf hc hkc hall hlet hr ht
    have hs := W.small
    have hend := W.ends k
    have hcs := lx_c_spec b k
    obtain ⟨n1, n2, n3, n4, n5, n6, n7, n8, n9, n10⟩ := WN.ne
    have g5 := WN.gl
    have hnn := WN.nn
    have k43 : ((97 ≤ b k ∧ b k ≤ 122 ∨ 65 ≤ b k ∧ b k ≤ 90) ∨ (48 ≤ b k ∧ b k ≤ 57) ∨ b k = 95) → w_X6_name_43 (zx σ n0 bf) d w p1 S Q := by
      intro hy
      refine ⟨W.K, W.g, ?_⟩
      rintro _ rfl
      have W1 := W.sI (f := 5002) (v := zs_I S 5002 w + 1) (by decide)
      have O1 : cw_o S (zs_sI S 5002 w (zs_I S 5002 w + 1)) w le (nm_off L L.length) := (cw_o.refl _ _ _ _).sI (by omega) (by omega)
      have e1 : (zs_I S 5002 w + 1).toInt = k + 1 := by rw [zi_add] <;> simp only [zi_lit] <;> omega
      have e9 : (p1 + 1).toInt = c + 1 := by rw [zi_add] <;> simp only [zi_lit] <;> omega
      have hst : lx_ne b (f + 1) k = lx_ne b f (k + 1) := by rw [lx_ne, if_pos hy]
      rw [hst] at hr ht
      have hk0' : 0 ≤ (zs_I S 5002 w).toInt := by rw [hk]; exact Int.natCast_nonneg _
      refine c_X6_byteAt hB (by clear hy hcs hend; omega) W1 hk0' ?_
      intro v7 hv7
      have e2 : (zs_I S 5002 w).toInt.toNat = k := by omega
      rw [e2] at hv7
      have hbk : b k ≠ -1 := by clear hlet hall hv7 hcs; omega
      have hkn : k < n := by clear hlet hall hv7 hcs hy; omega
      have hv7b : v7.toInt = b k := by rw [hv7, lx_c, if_neg hbk]
      have hyf : True → ((97 ≤ b k ∧ b k ≤ 122 ∨ 65 ≤ b k ∧ b k ≤ 90) ∨ (48 ≤ b k ∧ b k ≤ 57) ∨ b k = 95) := fun _ => hy
      have hyb : 48 ≤ b k ∧ b k ≤ 122 := by clear hlet hall hv7 hcs hend; omega
      clear hcs hend hv7
      clear hy
      -- the loop goes on from a state that differs in what is at hand and in letters
      have go : ∀ S3, cw_o S S3 w le (nm_off L L.length) → (zs_I S3 5002 w).toInt = k + 1 → zs_I S3 5005 w = zs_I S 5005 w → (∀ j, j < c + 1 → j < 20 → (zs_i S3 le (nm_off L L.length + j)).toInt = lx_small (b (k0 + j))) → zs_U (zx σ n0 bf) d 5009 2 [(0, .ref w), (1, .int (p1 + 1))] [] S3 Q := by
        intro S3 O3 h5 h6 h7
        refine ih (W.o O3 htp.1 htp.2) (WN.o O3) (by rw [O3.N]; exact hw) (by rw [h6]; exact hp) (k := k + 1) (c := c + 1) h5 (by omega) (by omega) (by omega) (by omega) ?_ h7 ?_ ?_
        · intro j hj
          by_cases e : j = c
          · subst e; rw [← hkc]; exact hyf trivial
          · exact hall j (by omega)
        · intro S1 S2 x q1 q2 q3 q4 q5 q6 q7 q8 q9 q10 q11
          exact hr S1 S2 x q1 (by omega) q3 q4 (O3.trans q5) q6 q7 q8 q9 q10 (q11.trans h6)
        · intro a S1 q1 q2
          obtain ⟨S2, q3, q4⟩ := q2
          exact ht a S1 q1 ⟨S2, O3.trans q3, q4⟩
      refine ⟨fun g => ?_, fun g => ?_⟩ <;> simp only [zi_le, zi_lit2] at g
      · refine go _ O1 (by simp only [zs_rd, and_self, if_true]; omega) (by simp [zs_rd]) ?_
        intro j hj hj2
        rw [show zs_i (zs_sI S 5002 w (zs_I S 5002 w + 1)) le (nm_off L L.length + j) = zs_i S le (nm_off L L.length + j) from by simp [zs_rd]]
        exact hlet j (by omega) hj2
      · have hne2 : (zs_I S 5012 w).toNatClampNeg = L.length := by rw [zi_nat]; omega
        have ho := WN.off L.length (Nat.le_refl _)
        refine ⟨W1.K, st, by simpa [zs_rd] using WN.Rs, zi_A (by simpa [zs_rd] using WN.Ks) (by simp [zs_rd]; omega) (by simp [zs_rd]; omega), ?_⟩
        refine c_X6_isLetter hB (by omega) ?_
        intro v14 hv14
        have e12 : zs_I (zs_sI S 5002 w (zs_I S 5002 w + 1)) 5012 w = zs_I S 5012 w := by simp [zs_rd]
        have e13 : ∀ j, zs_i (zs_sI S 5002 w (zs_I S 5002 w + 1)) st j = zs_i S st j := by intro j; simp [zs_rd]
        have e14 : zs_R (zs_sI S 5002 w (zs_I S 5002 w + 1)) 5008 w = some le := by simpa [zs_rd] using WN.Rl
        rw [e12, hne2, e13, e14]
        have e15 : (zs_i S st L.length + p1).toInt = nm_off L L.length + c := by rw [zi_add] <;> omega
        have e16 : (zs_i S st L.length + p1).toNatClampNeg = nm_off L L.length + c := by rw [zi_nat]; omega
        have put : ∀ v : Int32, v.toInt = lx_small (b k) → w_X6_name_95 (zx σ n0 bf) d w p1 (some le) (zs_i S st L.length + p1) v (zs_sI S 5002 w (zs_I S 5002 w + 1)) Q := by
          intro v hv
          refine ⟨le, rfl, zi_A (by simpa [zs_rd] using WN.Kl) (by omega) (by omega), g5.1, ?_⟩
          rintro _ rfl
          rw [e16]
          have hb2 : 0 ≤ lx_small (b k) ∧ lx_small (b k) ≤ 127 := by clear hv14; unfold lx_small; split <;> omega
          refine go _ (O1.letter (by omega) n7) (by simp only [zs_rd, zs_rda, and_self, if_true]; omega) (by simp [zs_rd, zs_rda]) ?_
          intro j hj hj2
          by_cases e : j = c
          · subst e
            simp only [zs_rda, and_self, if_true]
            rw [zi_byte hv hb2.1 hb2.2, hkc]
          · rw [show zs_i (zs_si (zs_sI S 5002 w (zs_I S 5002 w + 1)) le (nm_off L L.length + c) (vp_nar .byte v.toInt8.toInt32)) le (nm_off L L.length + j) = zs_i S le (nm_off L L.length + j) from by simp [zs_rd, zs_rda, e]]
            exact hlet j (by omega) hj2
        refine ⟨fun g1 => put v7 ?_, fun g1 => put _ ?_⟩ <;> simp only [zi_eq, zi_lit] at g1
        · have hnl : ¬ (65 ≤ b k ∧ b k ≤ 90) := by omega
          unfold lx_small; rw [if_neg hnl]; exact hv7b
        · have hyl : 97 ≤ b k ∧ b k ≤ 122 ∨ 65 ≤ b k ∧ b k ≤ 90 := by omega
          rw [lx_or32 hv7b hyl]
          clear hv14
          unfold lx_small
          split <;> split <;> omega
    have k103 : ¬ ((97 ≤ b k ∧ b k ≤ 122 ∨ 65 ≤ b k ∧ b k ≤ 90) ∨ (48 ≤ b k ∧ b k ≤ 57) ∨ b k = 95) → w_X6_name_103 (zx σ n0 bf) d w p1 S Q := by
      intro hy
      have hst : lx_ne b (f + 1) k = k := by rw [lx_ne, if_neg hy]
      rw [hst] at hr ht
      refine ⟨fun g => ⟨W.K, W.g, ?_⟩, fun g => ?_⟩ <;> simp only [zi_le, zi_lit2] at g
      · rintro _ rfl
        have O1 : cw_o S (zs_sI S 5003 w 0) w le (nm_off L L.length) := (cw_o.refl _ _ _ _).sI (by omega) (by omega)
        have hkk : k - k0 = c := by omega
        refine c_X6_enter hB (by omega) (WN.o O1) (x := lx_ltr b k0 c) (by rw [lx_ltr_len]; exact hc) ?_ ?_ (by rw [lx_ltr_len]; omega) ?_
        · intro j hj
          rw [lx_ltr_len] at hj
          rw [lx_ltr_at _ _ hj, ← hlet j hj (by omega)]
          simp [zs_rd]
        · refine ⟨by rw [lx_ltr_len]; omega, ?_⟩
          intro c9 hc9
          obtain ⟨j, hj, rfl⟩ := List.getElem_of_mem hc9
          rw [lx_ltr_len] at hj
          have e1 := lx_ltr_at b k0 hj
          rw [List.getD, List.getElem?_eq_getElem (by rw [lx_ltr_len]; exact hj), Option.getD_some] at e1
          rw [e1]
          have := hall j hj
          unfold lx_small
          split <;> omega
        · intro S1 v q1 q2 q3
          refine ⟨(q3.K w).trans (by simpa [zs_rd] using W.K), ?_⟩
          rintro _ rfl
          have O5 : cw_n n0 (zs_sI S1 5004 w v) w le st nx ch (nm_enter L (lx_ltr b k0 c)).1 := q1.o ((cw_o.refl _ _ _ _).sI (by omega) (by omega))
          refine hr _ (zs_sI (zs_sI S 5003 w 0) 5004 w v) (lx_ltr b k0 c) h2 (Nat.le_refl _) (by omega) (by rw [hkk]) (O1.sI (by omega) (by omega)) ?_ O5 ?_ ?_ ?_ ?_
          · refine ⟨fun a h1 h3 h4 h5 => ?_, fun a => ?_, fun g hg => ?_, fun g => ?_, fun g => ?_, ?_, ?_⟩
            · exact zf_trans (zf_trans (zf_at_sym (zf_sI h1)) (q3.at' a h1 h3 h4 h5)) (zf_sI h1)
            · simpa [zs_rd] using q3.K a
            · have := q3.I g hg
              simp only [zs_rd] at this ⊢
              split
              · rfl
              · exact this
            · simpa [zs_rd] using q3.J g
            · simpa [zs_rd] using q3.R g
            · simpa [zs_rd] using q3.N
            · simpa [zs_rd] using q3.M
          · have := q3.I 5003 (by omega)
            simp [zs_rd, this]
          · simp [zs_rd, q2]
          · have := q3.I 5002 (by omega)
            simp [zs_rd, this, hk]
          · have := q3.I 5005 (by omega)
            simp [zs_rd, this]
      · refine c_wfault hB Lb (by omega) W.K W.N hw (K := fun a S7 => Q (.threw a) S7) hp ?_
        intro S1 h1
        exact ht _ S1 (by omega) ⟨_, cw_o.refl _ _ _ _, h1⟩
    refine u_X6_name_2 hB ?_
    refine ⟨W.K, c_b0 hB (by omega) W hk ?_⟩
    intro v3 hv3
    refine c_X6_isLetter hB (by omega) ?_
    intro v5 hv5
    clear hlet hall hr ht ih hend
    refine ⟨fun g => k43 ?_, fun g => ⟨W.K, c_b0 hB (by omega) W hk ?_⟩⟩ <;> simp only [zi_eq, zi_lit, Classical.not_not] at g
    · rcases hv5 with ⟨-, h5⟩ | ⟨h5, -⟩
      · rw [hv3] at h5
        rcases hcs with ⟨-, hc0⟩ | ⟨-, hc0⟩
        · rw [hc0] at h5; exfalso; clear hv3 g hc; omega
        · rw [hc0] at h5; exact .inl h5
      · exact absurd h5 g
    · have hq1 : ¬ (97 ≤ lx_c b k ∧ lx_c b k ≤ 122 ∨ 65 ≤ lx_c b k ∧ lx_c b k ≤ 90) := by
        rcases hv5 with ⟨h5, -⟩ | ⟨-, h5⟩
        · rw [h5] at g; exact absurd g (by decide)
        · rw [hv3] at h5; exact h5
      clear hv5 hv3
      intro v9 hv9
      refine c_X6_isDigit hB (by omega) ?_
      intro v11 hv11
      refine ⟨fun g1 => k43 ?_, fun g1 => ⟨W.K, c_b0 hB (by omega) W hk ?_⟩⟩ <;> simp only [zi_eq, zi_lit, Classical.not_not] at g1
      · rcases hv11 with ⟨-, h5⟩ | ⟨h5, -⟩
        · rw [hv9] at h5
          rcases hcs with ⟨-, hc0⟩ | ⟨-, hc0⟩
          · rw [hc0] at h5; exfalso; clear hq1 hv9 hc; omega
          · rw [hc0] at h5; exact .inr (.inl h5)
        · exact absurd h5 g1
      · have hq2 : ¬ (48 ≤ lx_c b k ∧ lx_c b k ≤ 57) := by
          rcases hv11 with ⟨h5, -⟩ | ⟨-, h5⟩
          · rw [h5] at g1; exact absurd g1 (by decide)
          · rw [hv9] at h5; exact h5
        clear hv11 hv9
        intro v15 hv15
        refine ⟨fun g2 => k103 ?_, fun g2 => k43 (.inr (.inr ?_))⟩ <;> simp only [zi_eq, zi_lit2, Classical.not_not] at g2
        · rcases hcs with hcs | hcs
          · rw [hcs.1]; decide
          · rw [hcs.2] at hq1 hq2 hv15
            rintro (h | h | h)
            · exact hq1 h
            · exact hq2 h
            · exact g2 (hv15.trans h)
        · rcases hcs with hcs | hcs
          · rw [hcs.2] at hv15; rw [hv15] at g2; exact absurd g2 (by decide)
          · rw [hcs.2] at hv15; exact hv15.symm.trans g2
end CW6
