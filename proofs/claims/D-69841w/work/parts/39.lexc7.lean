/-! THE COMPONENT'S WORDS, 7: the next word -/
/-- the word that begins at k: its kind (0 a name, 1 a number, 2 a text, 3 a sign, 4 the end), its value, where it ends, the names then -/
def lx_tok (b : Nat → Int) (F : Nat) (L : List (List Int)) (k : Nat) : Option (Int × Int × Nat × List (List Int)) :=
  if b k = -1 then some (4, 0, k, L)
  else if 97 ≤ b k ∧ b k ≤ 122 ∨ 65 ≤ b k ∧ b k ≤ 90 then
    (if k + 20 < lx_ne b F k then none else some (0, ((nm_enter L (lx_ltr b k (lx_ne b F k - k))).2 : Int), lx_ne b F k, (nm_enter L (lx_ltr b k (lx_ne b F k - k))).1))
  else if 48 ≤ b k ∧ b k ≤ 57 then (match lx_num b F k with
    | some q => some (1, q.2, q.1, L)
    | none => none)
  else if b k = 39 then (match lx_txt b F (k + 1) 0 with
    | some q => if 1 ≤ q.2 ∧ q.2 ≤ 80 then some (2, (q.2 : Int), q.1, L) else none
    | none => none)
  else if lx_sgn (b k) (b (k + 1)) = 0 then none
  else some (3, lx_sgn (b k) (b (k + 1)), if lx_sgn (b k) (b (k + 1)) > 255 then k + 2 else k + 1, L)
/-- the next word from k0 on: where it begins and what it is; else the place of a fault -/
def lx_next (b : Nat → Int) (F : Nat) (L : List (List Int)) (k0 : Nat) : Except Nat (Nat × Int × Int × Nat × List (List Int)) := match lx_skip b F k0 with
  | .error p => .error p
  | .ok k => (match lx_tok b F L k with
    | none => .error k
    | some t => .ok (k, t))
/-- what the next word leaves as it was -/
def cw_F (S : zs_T) (S1 : zs_T) (w le st nx ch : Nat) : Prop := (∀ a, a ≠ w → a ≠ le → a ≠ st → a ≠ nx → a ≠ ch → zf_at S S1 a) ∧ (∀ a, zs_K S1 a = zs_K S a) ∧ (∀ f, (f < 5002 ∨ 5006 < f) → f ≠ 5012 → zs_I S1 f w = zs_I S f w) ∧ (∀ f, zs_R S1 f w = zs_R S f w) ∧ (∀ f, f ≠ 5007 → zs_J S1 f w = zs_J S f w) ∧ (zs_N S1 = zs_N S) ∧ (zs_M S1 = zs_M S)
theorem cw_F.at' {S : zs_T} {S1 : zs_T} {w le st nx ch : Nat} (W : cw_F S S1 w le st nx ch) : ∀ a, a ≠ w → a ≠ le → a ≠ st → a ≠ nx → a ≠ ch → zf_at S S1 a := W.1
theorem cw_F.K {S : zs_T} {S1 : zs_T} {w le st nx ch : Nat} (W : cw_F S S1 w le st nx ch) : ∀ a, zs_K S1 a = zs_K S a := W.2.1
theorem cw_F.I {S : zs_T} {S1 : zs_T} {w le st nx ch : Nat} (W : cw_F S S1 w le st nx ch) : ∀ f, (f < 5002 ∨ 5006 < f) → f ≠ 5012 → zs_I S1 f w = zs_I S f w := W.2.2.1
theorem cw_F.R {S : zs_T} {S1 : zs_T} {w le st nx ch : Nat} (W : cw_F S S1 w le st nx ch) : ∀ f, zs_R S1 f w = zs_R S f w := W.2.2.2.1
theorem cw_F.J {S : zs_T} {S1 : zs_T} {w le st nx ch : Nat} (W : cw_F S S1 w le st nx ch) : ∀ f, f ≠ 5007 → zs_J S1 f w = zs_J S f w := W.2.2.2.2.1
theorem cw_F.N {S : zs_T} {S1 : zs_T} {w le st nx ch : Nat} (W : cw_F S S1 w le st nx ch) : zs_N S1 = zs_N S := W.2.2.2.2.2.1
theorem cw_F.M {S : zs_T} {S1 : zs_T} {w le st nx ch : Nat} (W : cw_F S S1 w le st nx ch) : zs_M S1 = zs_M S := W.2.2.2.2.2.2
theorem cw_F.mk {S : zs_T} {S1 : zs_T} {w le st nx ch : Nat} (h0 : ∀ a, a ≠ w → a ≠ le → a ≠ st → a ≠ nx → a ≠ ch → zf_at S S1 a) (h1 : ∀ a, zs_K S1 a = zs_K S a) (h2 : ∀ f, (f < 5002 ∨ 5006 < f) → f ≠ 5012 → zs_I S1 f w = zs_I S f w) (h3 : ∀ f, zs_R S1 f w = zs_R S f w) (h4 : ∀ f, f ≠ 5007 → zs_J S1 f w = zs_J S f w) (h5 : zs_N S1 = zs_N S) (h6 : zs_M S1 = zs_M S) : cw_F S S1 w le st nx ch := ⟨h0, h1, h2, h3, h4, h5, h6⟩
theorem cw_F.refl (S : zs_T) (w le st nx ch : Nat) : cw_F S S w le st nx ch := ⟨fun _ _ _ _ _ _ => zf_refl _ _, fun _ => rfl, fun _ _ _ => rfl, fun _ => rfl, fun _ _ => rfl, rfl, rfl⟩
theorem cw_F.trans {S S1 S2 : zs_T} {w le st nx ch : Nat} (h : cw_F S S1 w le st nx ch) (k : cw_F S1 S2 w le st nx ch) : cw_F S S2 w le st nx ch := ⟨fun a h1 h2 h3 h4 h5 => zf_trans (h.at' a h1 h2 h3 h4 h5) (k.at' a h1 h2 h3 h4 h5), fun a => (k.K a).trans (h.K a), fun f hf hg => (k.I f hf hg).trans (h.I f hf hg), fun f => (k.R f).trans (h.R f), fun f hf => (k.J f hf).trans (h.J f hf), k.N.trans h.N, k.M.trans h.M⟩
theorem cw_o.F {S S1 : zs_T} {w le st nx ch m : Nat} (h : cw_o S S1 w le m) : cw_F S S1 w le st nx ch := ⟨fun a h1 h2 _ _ _ => h.at' a h1 h2, h.K, fun f hf _ => h.I f hf, h.R, h.J, h.N, h.M⟩
theorem cw_nf.F {S S1 : zs_T} {w le st nx ch : Nat} (h : cw_nf S S1 w st nx ch) : cw_F S S1 w le st nx ch := ⟨fun a h1 _ h3 h4 h5 => h.at' a h1 h3 h4 h5, h.K, fun f _ hf => h.I f hf, h.R, fun f _ => h.J f, h.N, h.M⟩
theorem cw_t.F {n0 : Nat} {S S1 : zs_T} {w tp n le st nx ch : Nat} {b : Nat → Int} (W : cw_t n0 S w tp n b) (h : cw_F S S1 w le st nx ch) (h1 : tp ≠ w ∧ tp ≠ le ∧ tp ≠ st ∧ tp ≠ nx ∧ tp ≠ ch) : cw_t n0 S1 w tp n b := by
  have ha := h.at' tp h1.1 h1.2.1 h1.2.2.1 h1.2.2.2.1 h1.2.2.2.2
  obtain ⟨N, hN⟩ := W.T
  refine ⟨(h.K w).trans W.K, W.g, (h.R 5000).trans W.t, ⟨N, (h.K tp).trans hN.1, hN.2⟩, ?_, ?_, W.small, by rw [h.N]; exact W.N⟩
  · rw [h.I 5001 (by omega) (by omega)]; exact W.e
  · rw [W.b]
    congr 1
    funext j
    exact (ha.2.2.2.2.1 j).symm
theorem nm_enter_bd {L : List (List Int)} {x : List Int} : nm_off (nm_enter L x).1 (nm_enter L x).1.length ≤ nm_off L L.length + x.length ∧ (nm_enter L x).1.length ≤ L.length + 1 := by
  unfold nm_enter
  split
  · exact ⟨by simp, by simp⟩
  · refine ⟨?_, by simp⟩
    simp only [List.length_append, List.length_singleton]
    rw [nm_off, nm_at_new, nm_off_old (Nat.le_refl _)]
    exact Nat.le_refl _
/-- the word at hand: where it begins, its kind, value, where it ends -/
def cw_w (S : zs_T) (w : Nat) (t : Nat × Int × Int × Nat) : Prop := ((zs_I S 5003 w).toInt = t.2.1) ∧ ((t.2.1 = 0 ∨ t.2.1 = 3) → (zs_I S 5004 w).toInt = t.2.2.1) ∧ (t.2.1 = 1 → (zs_J S 5007 w).toInt = t.2.2.1) ∧ ((zs_I S 5005 w).toInt = t.1) ∧ ((zs_I S 5006 w).toInt = t.2.2.2) ∧ ((zs_I S 5002 w).toInt = t.2.2.2)
theorem cw_w.kind {S : zs_T} {w : Nat} {t : Nat × Int × Int × Nat} (W : cw_w S w t) : (zs_I S 5003 w).toInt = t.2.1 := W.1
theorem cw_w.val {S : zs_T} {w : Nat} {t : Nat × Int × Int × Nat} (W : cw_w S w t) : (t.2.1 = 0 ∨ t.2.1 = 3) → (zs_I S 5004 w).toInt = t.2.2.1 := W.2.1
theorem cw_w.num {S : zs_T} {w : Nat} {t : Nat × Int × Int × Nat} (W : cw_w S w t) : t.2.1 = 1 → (zs_J S 5007 w).toInt = t.2.2.1 := W.2.2.1
theorem cw_w.fr {S : zs_T} {w : Nat} {t : Nat × Int × Int × Nat} (W : cw_w S w t) : (zs_I S 5005 w).toInt = t.1 := W.2.2.2.1
theorem cw_w.to {S : zs_T} {w : Nat} {t : Nat × Int × Int × Nat} (W : cw_w S w t) : (zs_I S 5006 w).toInt = t.2.2.2 := W.2.2.2.2.1
theorem cw_w.pos {S : zs_T} {w : Nat} {t : Nat × Int × Int × Nat} (W : cw_w S w t) : (zs_I S 5002 w).toInt = t.2.2.2 := W.2.2.2.2.2
theorem cw_w.mk {S : zs_T} {w : Nat} {t : Nat × Int × Int × Nat} (h0 : (zs_I S 5003 w).toInt = t.2.1) (h1 : (t.2.1 = 0 ∨ t.2.1 = 3) → (zs_I S 5004 w).toInt = t.2.2.1) (h2 : t.2.1 = 1 → (zs_J S 5007 w).toInt = t.2.2.1) (h3 : (zs_I S 5005 w).toInt = t.1) (h4 : (zs_I S 5006 w).toInt = t.2.2.2) (h5 : (zs_I S 5002 w).toInt = t.2.2.2) : cw_w S w t := ⟨h0, h1, h2, h3, h4, h5⟩
theorem lx_sgn_two {n0 : Nat} {S : zs_T} {w tp n k : Nat} {b : Nat → Int} (W : cw_t n0 S w tp n b) (h : lx_sgn (b k) (b (k + 1)) > 255) : k + 2 ≤ n := by
  have hend1 := W.ends (k + 1)
  have hr := W.rng k
  by_cases h8 : n ≤ k + 1
  · have h7 := hend1.mpr h8
    rw [h7] at h
    unfold lx_sgn at h
    rw [if_neg (by omega), if_neg (by omega), if_neg (by omega), if_neg (by omega), if_neg (by omega)] at h
    split at h <;> omega
  · omega
section CW7
variable {σ : Nat → Nat} {n0 : Nat} {bf : ab_B} {d : Nat} {S : zs_T} {Q : zs_Q} {w tp n le st nx ch : Nat} {b : Nat → Int} {L : List (List Int)}
theorem c_X6_next_92 {S1 : zs_T} (F1 : cw_F S S1 w le st nx ch) (hK : zs_K S w = some (.inl 5)) (hg : n0 ≤ w) {K : zs_T → Prop} (h : cw_F S (zs_sI S1 5006 w (zs_I S1 5002 w)) w le st nx ch → K (zs_sI S1 5006 w (zs_I S1 5002 w))) : w_X6_next_92 (zx σ n0 bf) d w S1 (zs_kV K Q) := by
  refine ⟨(F1.K w).trans hK, hg, ?_⟩
  rintro _ rfl
  exact h (F1.trans ⟨fun a h1 _ _ _ _ => zf_sI h1, fun a => by simp [zs_rd], fun f hf _ => by simp only [zs_rd]; rw [if_neg (by omega)], fun f => by simp [zs_rd], fun f _ => by simp [zs_rd], by simp [zs_rd], by simp [zs_rd]⟩)
/-- the next word -/
theorem c_X6_next (hB : zt_B bf) (Lb : zb (zx σ n0 bf) n0) (hd : 14 ≤ d) (htp : tp ≠ w ∧ tp ≠ le ∧ tp ≠ st ∧ tp ≠ nx ∧ tp ≠ ch) {k0 : Nat} (W : cw_t n0 S w tp n b) (WN : cw_n n0 S w le st nx ch L) (hw : w < zs_N S) (hk : (zs_I S 5002 w).toInt = k0) (hkn : k0 ≤ n) (hn : n ≤ 1300) (hbd : nm_off L L.length ≤ 400 + k0 ∧ L.length ≤ 60 + k0) {K : zs_T → Prop}
    (hr : ∀ S1 k t, lx_next b (n + 1) L k0 = .ok (k, t) → k0 ≤ k → k ≤ t.2.2.1 → t.2.2.1 ≤ n → cw_F S S1 w le st nx ch → cw_t n0 S1 w tp n b → cw_n n0 S1 w le st nx ch t.2.2.2 → cw_w S1 w (k, t.1, t.2.1, t.2.2.1) → nm_off t.2.2.2 t.2.2.2.length ≤ 400 + t.2.2.1 ∧ t.2.2.2.length ≤ 60 + t.2.2.1 → K S1)
    (ht : ∀ p a S1 S2, lx_next b (n + 1) L k0 = .error p → cw_F S S2 w le st nx ch → zft n0 S2 1 p a S1 → Q (.threw a) S1) :
    zs_C (zx σ n0 bf) d 5004 [.ref w] S (zs_kV K Q) := by
  refine u_X6_next hB (by omega) ?_
  refine ⟨W.K, c_X6_blanks hB Lb (by omega) (n + 1) W hk hkn (by omega) ?_ ?_⟩
  rotate_left
  · intro p a v S1 g1 g2
    exact ht p a S1 _ (by rw [lx_next, g1]) (((cw_o.refl S w le 0).sI (by omega) (by omega)).F) g2
  intro k v g1 g2 g3 g4
  have O1 : cw_o S (zs_sI S 5002 w v) w le (nm_off L L.length) := (cw_o.refl _ _ _ _).sI (by omega) (by omega)
  refine ⟨by simpa [zs_rd] using W.K, W.g, ?_⟩
  rintro _ rfl
  have O2 : cw_o S (zs_sI (zs_sI S 5002 w v) 5005 w (zs_I (zs_sI S 5002 w v) 5002 w)) w le (nm_off L L.length) := O1.sI (by omega) (by omega)
  generalize hS2 : zs_sI (zs_sI S 5002 w v) 5005 w (zs_I (zs_sI S 5002 w v) 5002 w) = S2 at O2
  have hk2 : (zs_I S2 5002 w).toInt = k := by rw [← hS2]; simp [zs_rd, g4]
  have hf2 : (zs_I S2 5005 w).toInt = k := by rw [← hS2]; simp [zs_rd, g4]
  have W2 := W.o O2 htp.1 htp.2.1
  have N2 := WN.o O2
  have hw2 : w < zs_N S2 := by rw [O2.N]; exact hw
  have he := W2.e
  have hend := W2.ends k
  have hcs := lx_c_spec b k
  clear hS2
  have hx : lx_tok b (n + 1) L k = none → lx_next b (n + 1) L k0 = .error k := by intro g; rw [lx_next, g1]; simp only [g]
  have hy : ∀ t, lx_tok b (n + 1) L k = some t → lx_next b (n + 1) L k0 = .ok (k, t) := by intro t g; rw [lx_next, g1]; simp only [g]
  refine c_b0 hB (by omega) W2 hk2 ?_
  intro v10 hv10
  refine ⟨W2.K, fun g => ?_, fun g => ?_⟩ <;> simp only [zi_lt] at g
  · have hbk : b k ≠ -1 := by omega
    have hkn2 : k < n := by omega
    have hvb : v10.toInt = b k := by omega
    clear hcs hend hv10
    refine c_X6_isLetter hB (by omega) ?_
    intro v2 hv2
    refine ⟨fun g5 => ?_, fun g5 => ⟨W2.K, ?_⟩⟩ <;> simp only [zi_eq, zi_lit] at g5
    · have hnl : ¬ (97 ≤ b k ∧ b k ≤ 122 ∨ 65 ≤ b k ∧ b k ≤ 90) := by omega
      clear hv2
      refine c_X6_isDigit hB (by omega) ?_
      intro v5 hv5
      refine ⟨fun g6 => ?_, fun g6 => ⟨W2.K, ?_⟩⟩ <;> simp only [zi_eq, zi_lit] at g6
      · have hnd : ¬ (48 ≤ b k ∧ b k ≤ 57) := by omega
        clear hv5
        refine ⟨fun g7 => ⟨W2.K, ?_⟩, fun g7 => ⟨W2.K, ?_⟩⟩ <;> simp only [zi_eq, zi_lit2, Classical.not_not] at g7
        · have hnq : ¬ b k = 39 := by omega
          refine c_X6_sign (le := le) (m := nm_off L L.length) hB Lb (by omega) W2 hw2 hk2 hkn2 hf2 hvb ?_ ?_
          · intro S1 q1 q2 q3 q4 q5 q6
            refine c_X6_next_92 (d := d - 1) (le := le) (st := st) (nx := nx) (ch := ch) (O2.F.trans q2.F) W.K W.g ?_
            intro F9
            have e : lx_tok b (n + 1) L k = some (3, lx_sgn (b k) (b (k + 1)), if lx_sgn (b k) (b (k + 1)) > 255 then k + 2 else k + 1, L) := by rw [lx_tok, if_neg hbk, if_neg hnl, if_neg hnd, if_neg hnq, if_neg q1]
            have hto : (zs_I S1 5002 w).toInt = ((if lx_sgn (b k) (b (k + 1)) > 255 then k + 2 else k + 1 : Nat) : Int) := by rw [q5]; split <;> simp
            have h2n : (if lx_sgn (b k) (b (k + 1)) > 255 then k + 2 else k + 1) ≤ n := by
              split
              · rename_i h9
                exact lx_sgn_two W2 h9
              · omega
            refine hr _ k _ (hy _ e) g2 (by simp only; split <;> omega) h2n F9 (W.F F9 htp) (N2.o (q2.sI (by omega) (by omega))) ?_ ?_
            · exact ⟨by simp [zs_rd, q3], fun _ => by simp [zs_rd, q4], fun h => by simp at h, by simp [zs_rd, q6, hf2], by simpa [zs_rd] using hto, by simpa [zs_rd] using hto⟩
            · simp only; split <;> omega
          · intro a S1 q1 q2
            obtain ⟨S3, q3, q4⟩ := q2
            exact ht k a S1 S3 (hx (by rw [lx_tok, if_neg hbk, if_neg hnl, if_neg hnd, if_neg hnq, if_pos q1])) (O2.F.trans q3.F) q4
        · refine u_X6_text hB (by omega) ?_
          refine ⟨W2.K, W2.g, ?_⟩
          rintro _ rfl _ rfl
          have O3 : cw_o S2 (zs_sI (zs_sI S2 5003 w 2) 5002 w (zs_I (zs_sI S2 5003 w 2) 5002 w + 1)) w le (nm_off L L.length) := ((cw_o.refl _ _ _ _).sI (by omega) (by omega)).sI (by omega) (by omega)
          have e0 : zs_I (zs_sI S2 5003 w 2) 5002 w = zs_I S2 5002 w := by simp [zs_rd]
          have e1 : (zs_I (zs_sI S2 5003 w 2) 5002 w + 1).toInt = k + 1 := by rw [e0, zi_add] <;> simp only [zi_lit] <;> omega
          have htk : lx_tok b (n + 1) L k = (match lx_txt b (n + 1) (k + 1) 0 with
              | some q => if 1 ≤ q.2 ∧ q.2 ≤ 80 then some (2, (q.2 : Int), q.1, L) else none
              | none => none) := by rw [lx_tok, if_neg hbk, if_neg hnl, if_neg hnd, if_pos (by omega)]
          refine c_X6_text_17 hB Lb (by omega) htp.1 (p := k) (n + 1) (W2.o O3 htp.1 htp.2.1) (by rw [O3.N]; exact hw2) (k := k + 1) (c := 0) (by simp [zs_rd, hf2]) (by simp only [zs_rd, and_self, if_true]; exact e1) (by omega) (by omega) rfl (by omega) ?_ ?_
          · intro v3 k1 c1 q1 q2 q3 q4 q5 q6
            rw [zs_sI2]
            have O4 : cw_o S2 (zs_sI (zs_sI S2 5003 w 2) 5002 w v3) w le (nm_off L L.length) := ((cw_o.refl _ _ _ _).sI (by omega) (by omega)).sI (by omega) (by omega)
            refine c_X6_next_92 (d := d - 1) (le := le) (st := st) (nx := nx) (ch := ch) (O2.F.trans O4.F) W.K W.g ?_
            intro F9
            have e : lx_tok b (n + 1) L k = some (2, (c1 : Int), k1, L) := by rw [htk, q1]; simp only; rw [if_pos ⟨q2, q3⟩]
            refine hr _ k _ (hy _ e) g2 (by simp only; omega) q5 F9 (W.F F9 htp) (N2.o (O4.sI (by omega) (by omega))) ?_ ?_
            · exact ⟨by simp [zs_rd], fun h => by simp at h, fun h => by simp at h, by simp [zs_rd, hf2], by simp [zs_rd, q6], by simp [zs_rd, q6]⟩
            · simp only; omega
          · intro a v3 S1 q1 q2
            rw [zs_sI2] at q2
            have O4 : cw_o S2 (zs_sI (zs_sI S2 5003 w 2) 5002 w v3) w le (nm_off L L.length) := ((cw_o.refl _ _ _ _).sI (by omega) (by omega)).sI (by omega) (by omega)
            refine ht k a S1 _ (hx ?_) (O2.F.trans O4.F) q2
            rw [htk]
            cases hq : lx_txt b (n + 1) (k + 1) 0 with
            | none => rfl
            | some q =>
              have := q1 q.1 q.2 hq
              simp only
              rw [if_neg (by omega)]
      · have hdg : 48 ≤ b k ∧ b k ≤ 57 := by omega
        clear hv5
        have htk : lx_tok b (n + 1) L k = (match lx_num b (n + 1) k with
            | some q => some (1, q.2, q.1, L)
            | none => none) := by rw [lx_tok, if_neg hbk, if_neg hnl, if_pos hdg]
        refine c_X6_number (le := le) (m := nm_off L L.length) hB Lb (by omega) ⟨htp.1, htp.2.1⟩ (p := k) (f := n + 1) W2 hw2 hf2 hk2 g3 (by omega) ?_ ?_
        · intro S1 k1 v1 q1 q2 q3 q4 q5 q6 q7 q8
          refine c_X6_next_92 (d := d - 1) (le := le) (st := st) (nx := nx) (ch := ch) (O2.F.trans q4.F) W.K W.g ?_
          intro F9
          have e : lx_tok b (n + 1) L k = some (1, v1, k1, L) := by rw [htk, q1]
          refine hr _ k _ (hy _ e) g2 q3 q2 F9 (W.F F9 htp) (N2.o (q4.sI (by omega) (by omega))) ?_ ?_
          · exact ⟨by simp [zs_rd, q5], fun h => by simp at h, fun _ => by simp [zs_rd, q6], by simp [zs_rd, q8, hf2], by simp [zs_rd, q7], by simp [zs_rd, q7]⟩
          · simp only; omega
        · intro a S1 q1 q2
          obtain ⟨S3, q3, q4⟩ := q2
          exact ht k a S1 S3 (hx (by rw [htk, q1])) (O2.F.trans q3.F) q4
    · have hlt : 97 ≤ b k ∧ b k ≤ 122 ∨ 65 ≤ b k ∧ b k ≤ 90 := by omega
      clear hv2
      refine u_X6_name hB (by omega) ?_
      refine c_X6_name_2 (st := st) (nx := nx) (ch := ch) (k0 := k) hB Lb (by omega) ⟨htp.1, htp.2.1⟩ (p := k) W.small (by omega) (n + 1) W2 N2 hw2 hf2 (k := k) (c := 0) hk2 g3 (by omega) rfl (by omega) (fun j hj => by omega) (fun j hj => by omega) ?_ ?_
      · intro S1 S3 x q1 q2 q3 q4 q5 q6 q7 q8 q9 q10 q11
        refine c_X6_next_92 (d := d - 1) (le := le) (st := st) (nx := nx) (ch := ch) (O2.F.trans (q5.F.trans q6.F)) W.K W.g ?_
        intro F9
        have e : lx_tok b (n + 1) L k = some (0, ((nm_enter L x).2 : Int), lx_ne b (n + 1) k, (nm_enter L x).1) := by rw [lx_tok, if_neg hbk, if_pos hlt, if_neg (by omega), q4]
        have hb9 := nm_enter_bd (L := L) (x := x)
        have hxl : x.length = lx_ne b (n + 1) k - k := by rw [q4, lx_ltr_len]
        have h1k : k + 1 ≤ lx_ne b (n + 1) k := by
          rw [lx_ne, if_pos (.inl hlt)]
          exact (lx_ne_spec b n (k + 1)).1
        refine hr _ k _ (hy _ e) g2 q2 q1 F9 (W.F F9 htp) (q7.o ((cw_o.refl _ _ _ _).sI (by omega) (by omega))) ?_ ?_
        · exact ⟨by simp [zs_rd, q8], fun _ => by simp [zs_rd, q9], fun h => by simp at h, by simp [zs_rd, q11, hf2], by simp [zs_rd, q10], by simp [zs_rd, q10]⟩
        · simp only; omega
      · intro a S1 q1 q2
        obtain ⟨S3, q3, q4⟩ := q2
        exact ht k a S1 S3 (hx (by rw [lx_tok, if_neg hbk, if_pos hlt, if_pos q1])) (O2.F.trans q3.F) q4
  · have hbk : b k = -1 := by omega
    have hkn2 : k = n := by omega
    refine ⟨W2.K, W2.g, ?_⟩
    rintro _ rfl _ rfl
    have O3 : cw_o S2 (zs_sI (zs_sI S2 5003 w 4) 5006 w (zs_I (zs_sI S2 5003 w 4) 5002 w)) w le (nm_off L L.length) := ((cw_o.refl _ _ _ _).sI (by omega) (by omega)).sI (by omega) (by omega)
    have e : lx_tok b (n + 1) L k = some (4, 0, k, L) := by rw [lx_tok, if_pos hbk]
    refine hr _ k _ (hy _ e) g2 (Nat.le_refl _) g3 (O2.F.trans O3.F) (W2.o O3 htp.1 htp.2.1) (N2.o O3) ?_ ?_
    · exact ⟨by simp [zs_rd], fun h => by simp at h, fun h => by simp at h, by simp [zs_rd, hf2], by simp [zs_rd, hk2], by simp [zs_rd, hk2]⟩
    · simp only; omega
end CW7
