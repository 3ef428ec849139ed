/-! THE COMPONENT'S WORDS, 4: signs, texts -/
/-- the number of a sign; 0: none -/
def lx_sgn (c e : Int) : Int := if c = 60 ∧ e = 62 then 256 else if c = 60 ∧ e = 61 then 257 else if c = 62 ∧ e = 61 then 258 else if c = 58 ∧ e = 61 then 259 else if c = 46 ∧ e = 46 then 260
  else if c = 43 ∨ c = 45 ∨ c = 42 ∨ c = 61 ∨ c = 60 ∨ c = 62 ∨ c = 40 ∨ c = 41 ∨ c = 91 ∨ c = 93 ∨ c = 44 ∨ c = 59 ∨ c = 58 ∨ c = 94 ∨ c = 46 then c else 0
/-- behind a text that has begun, how many bytes it has -/
def lx_txt (b : Nat → Int) : Nat → Nat → Nat → Option (Nat × Nat)
  | 0, _, _ => none
  | f + 1, k, m => if b k = -1 then none else if b k = 39 ∧ b (k + 1) ≠ 39 then some (k + 1, m) else if b k < 32 then none else lx_txt b f (if b k = 39 then k + 2 else k + 1) (m + 1)
/-- only what is at hand of the words w has changed, and letters (of le) from m on -/
def cw_o (S : zs_T) (S1 : zs_T) (w le m : Nat) : Prop := (∀ a, a ≠ w → a ≠ le → zf_at S S1 a) ∧ (∀ a, zs_K S1 a = zs_K S a) ∧ (∀ f, (f < 5002 ∨ 5006 < f) → zs_I S1 f w = zs_I S f w) ∧ (∀ f, zs_R S1 f w = zs_R S f w) ∧ (∀ f, f ≠ 5007 → zs_J S1 f w = zs_J S f w) ∧ (∀ j, j < m → zs_i S1 le j = zs_i S le j) ∧ (zs_N S1 = zs_N S) ∧ (zs_M S1 = zs_M S)
theorem cw_o.at' {S : zs_T} {S1 : zs_T} {w le m : Nat} (W : cw_o S S1 w le m) : ∀ a, a ≠ w → a ≠ le → zf_at S S1 a := W.1
theorem cw_o.K {S : zs_T} {S1 : zs_T} {w le m : Nat} (W : cw_o S S1 w le m) : ∀ a, zs_K S1 a = zs_K S a := W.2.1
theorem cw_o.I {S : zs_T} {S1 : zs_T} {w le m : Nat} (W : cw_o S S1 w le m) : ∀ f, (f < 5002 ∨ 5006 < f) → zs_I S1 f w = zs_I S f w := W.2.2.1
theorem cw_o.R {S : zs_T} {S1 : zs_T} {w le m : Nat} (W : cw_o S S1 w le m) : ∀ f, zs_R S1 f w = zs_R S f w := W.2.2.2.1
theorem cw_o.J {S : zs_T} {S1 : zs_T} {w le m : Nat} (W : cw_o S S1 w le m) : ∀ f, f ≠ 5007 → zs_J S1 f w = zs_J S f w := W.2.2.2.2.1
theorem cw_o.lo {S : zs_T} {S1 : zs_T} {w le m : Nat} (W : cw_o S S1 w le m) : ∀ j, j < m → zs_i S1 le j = zs_i S le j := W.2.2.2.2.2.1
theorem cw_o.N {S : zs_T} {S1 : zs_T} {w le m : Nat} (W : cw_o S S1 w le m) : zs_N S1 = zs_N S := W.2.2.2.2.2.2.1
theorem cw_o.M {S : zs_T} {S1 : zs_T} {w le m : Nat} (W : cw_o S S1 w le m) : zs_M S1 = zs_M S := W.2.2.2.2.2.2.2
theorem cw_o.mk {S : zs_T} {S1 : zs_T} {w le m : Nat} (h0 : ∀ a, a ≠ w → a ≠ le → zf_at S S1 a) (h1 : ∀ a, zs_K S1 a = zs_K S a) (h2 : ∀ f, (f < 5002 ∨ 5006 < f) → zs_I S1 f w = zs_I S f w) (h3 : ∀ f, zs_R S1 f w = zs_R S f w) (h4 : ∀ f, f ≠ 5007 → zs_J S1 f w = zs_J S f w) (h5 : ∀ j, j < m → zs_i S1 le j = zs_i S le j) (h6 : zs_N S1 = zs_N S) (h7 : zs_M S1 = zs_M S) : cw_o S S1 w le m := ⟨h0, h1, h2, h3, h4, h5, h6, h7⟩
section CW4
variable {σ : Nat → Nat} {n0 : Nat} {bf : ab_B} {d : Nat} {S S1 S2 : zs_T} {Q : zs_Q} {w tp n le m : Nat} {b : Nat → Int}
theorem cw_o.refl (S : zs_T) (w le m : Nat) : cw_o S S w le m := ⟨fun _ _ _ => zf_refl _ _, fun _ => rfl, fun _ _ => rfl, fun _ => rfl, fun _ _ => rfl, fun _ _ => rfl, rfl, rfl⟩
theorem cw_o.trans (h : cw_o S S1 w le m) (k : cw_o S1 S2 w le m) : cw_o S S2 w le m := ⟨fun a h1 h2 => zf_trans (h.at' a h1 h2) (k.at' a h1 h2), fun a => (k.K a).trans (h.K a), fun f hf => (k.I f hf).trans (h.I f hf), fun f => (k.R f).trans (h.R f), fun f hf => (k.J f hf).trans (h.J f hf), fun j hj => (k.lo j hj).trans (h.lo j hj), k.N.trans h.N, k.M.trans h.M⟩
theorem cw_o.sI (h : cw_o S S1 w le m) {f : Nat} {v : Int32} (h1 : 5002 ≤ f) (h2 : f ≤ 5006) : cw_o S (zs_sI S1 f w v) w le m :=
  h.trans ⟨fun a h1 h2 => zf_sI h1, fun a => by simp [zs_rd], fun g hg => by simp only [zs_rd]; rw [if_neg (by omega)], fun f => by simp [zs_rd], fun f _ => by simp [zs_rd], fun j _ => by simp [zs_rd], by simp [zs_rd], by simp [zs_rd]⟩
theorem cw_o.sJ (h : cw_o S S1 w le m) {v : Int64} : cw_o S (zs_sJ S1 5007 w v) w le m :=
  h.trans ⟨fun a h1 h2 => zf_sJ h1, fun a => by simp [zs_rd], fun g hg => by simp [zs_rd], fun f => by simp [zs_rd], fun f hf => by simp [zs_rd, hf], fun j _ => by simp [zs_rd], by simp [zs_rd], by simp [zs_rd]⟩
theorem cw_o.letter (h : cw_o S S1 w le m) {j : Nat} {v : Int32} (hj : m ≤ j) (hw : w ≠ le) : cw_o S (zs_si S1 le j v) w le m :=
  h.trans ⟨fun a h1 h2 => zf_si h2, fun a => by simp [zs_rda], fun g hg => by simp [zs_rda], fun f => by simp [zs_rda], fun f _ => by simp [zs_rda], fun i hi => by simp only [zs_rda]; rw [if_neg (by omega)], by simp [zs_rda], by simp [zs_rda]⟩
theorem cw_t.o (W : cw_t n0 S w tp n b) (h : cw_o S S1 w le m) (h1 : tp ≠ w) (h2 : tp ≠ le) : cw_t n0 S1 w tp n b := by
  have ha := h.at' tp h1 h2
  obtain ⟨N, hN⟩ := W.T
  refine ⟨(h.K w).trans W.K, W.g, (h.R 5000).trans W.t, ⟨N, (h.K tp).trans hN.1, hN.2⟩, ?_, ?_, W.small, by rw [h.N]; exact W.N⟩
  · rw [h.I 5001 (by omega)]; exact W.e
  · rw [W.b]
    congr 1
    funext j
    exact (ha.2.2.2.2.1 j).symm
/-- a fault of words was thrown -/
def cw_x (n0 : Nat) (S : zs_T) (w le m : Nat) (p : Int) (a : Nat) (S1 : zs_T) : Prop := ∃ S2, cw_o S S2 w le m ∧ zft n0 S2 1 p a S1
theorem c_wfault (hB : zt_B bf) (L : zb (zx σ n0 bf) n0) (hd : 11 ≤ d) (W : zs_K S w = some (.inl 5)) (hN : n0 ≤ zs_N S) (hw : w < zs_N S) {K : Nat → zs_T → Prop} {p : Int} (hp : (zs_I S 5005 w).toInt = p) (h : ∀ S1, zft n0 S 1 p (zs_N S) S1 → K (zs_N S) S1) : ∀ (a : Nat) (S2 : zs_T), a = zs_N S → S2 = zs_nw S (.inl 9) 8 → zs_K S2 w = some (.inl 5) ∧ zs_C (zx σ n0 bf) d 9000 [.ref a, .int (1 : Int32), .int (zs_I S2 5005 w)] S2 (zs_kV (K a) Q) := by
  rintro _ _ rfl rfl
  have hne : w ≠ zs_N S := by omega
  have e : zs_I (zs_nw S (.inl 9) 8) 5005 w = zs_I S 5005 w := by simp [zs_rdn, hne]
  refine ⟨by simpa [zs_rdn, hne] using W, ?_⟩
  rw [e]
  refine c_fault hB L hd hN ?_
  intro S1 h1
  rw [hp] at h1
  exact h S1 h1
theorem c_X6_sign (hB : zt_B bf) (L : zb (zx σ n0 bf) n0) (hd : 12 ≤ d) {k : Nat} (W : cw_t n0 S w tp n b) (hw : w < zs_N S) (hk : (zs_I S 5002 w).toInt = k) (hn : k < n) {p : Int} (hp : (zs_I S 5005 w).toInt = p) {c : Int32} (hc : c.toInt = b k) {K : zs_T → Prop}
    (hr : ∀ S1, lx_sgn (b k) (b (k + 1)) ≠ 0 → cw_o S S1 w le m → (zs_I S1 5003 w).toInt = 3 → (zs_I S1 5004 w).toInt = lx_sgn (b k) (b (k + 1)) → (zs_I S1 5002 w).toInt = (if lx_sgn (b k) (b (k + 1)) > 255 then k + 2 else k + 1 : Int) → zs_I S1 5005 w = zs_I S 5005 w → K S1)
    (ht : ∀ a S1, lx_sgn (b k) (b (k + 1)) = 0 → cw_x n0 S w le m p a S1 → Q (.threw a) S1) :
    zs_C (zx σ n0 bf) d 5014 [.ref w, .int c] S (zs_kV K Q) := by
  have he := W.e
  have hs := W.small
  have hend := W.ends k
  have hend1 := W.ends (k + 1)
  have hrng := W.rng k
  have hrng1 := W.rng (k + 1)
  have hcs1 := lx_c_spec b (k + 1)
  have hK := W.K
  -- the end: whether it is a sign
  have k216 : ∀ (q : Int32) (i : Int32), (q.toInt = 1 ∧ i.toInt = lx_sgn (b k) (b (k + 1)) ∧ i.toInt ≠ 0 ∨ q.toInt = 0 ∧ lx_sgn (b k) (b (k + 1)) = 0) → i.toInt ≤ 260 → w_X6_sign_216 (zx σ n0 bf) (d - 1) w q (zs_sI (zs_sI S 5003 w 3) 5004 w i) (zs_kV K Q) := by
    intro q i hq hi
    have O : cw_o S (zs_sI (zs_sI S 5003 w 3) 5004 w i) w le m := ((cw_o.refl _ _ _ _).sI (by omega) (by omega)).sI (by omega) (by omega)
    refine ⟨fun g => ?_, fun g => ?_⟩ <;> simp only [zi_eq, zi_lit, Classical.not_not] at g
    · refine ⟨by simpa [zs_rd] using hK, ?_⟩
      simp only [zs_rd, and_self, if_true]
      refine ⟨fun g2 => ⟨W.g, ?_⟩, fun g2 => ⟨W.g, ?_⟩⟩ <;> simp only [zi_le, zi_lit2] at g2
      · rintro _ rfl
        refine hr _ (by omega) (O.sI (by omega) (by omega)) (by simp [zs_rd]) (by simp [zs_rd]; omega) ?_ (by simp [zs_rd])
        simp [zs_rd, -Int32.toInt_add]
        have e9 : (zs_I S 5002 w + 1).toInt = k + 1 := by rw [zi_add] <;> simp only [zi_lit] <;> omega
        rw [e9]; split <;> omega
      · rintro _ rfl
        refine hr _ (by omega) (O.sI (by omega) (by omega)) (by simp [zs_rd]) (by simp [zs_rd]; omega) ?_ (by simp [zs_rd])
        simp [zs_rd, -Int32.toInt_add]
        have e9 : (zs_I S 5002 w + 2).toInt = k + 2 := by rw [zi_add] <;> simp only [zi_lit] <;> omega
        rw [e9]; split <;> omega
    · refine c_wfault hB L (by omega) (K := fun a S7 => zs_kV K Q (.threw a) S7) (by simpa [zs_rd] using hK) (by simpa [zs_rd] using W.N) (by simpa [zs_rd] using hw) (p := p) (by simpa [zs_rd] using hp) ?_
      intro S1 h1
      exact ht _ S1 (by omega) ⟨_, O, h1⟩
  have k108 : ∀ (i : Int32), (i.toInt > 255 ∧ i.toInt ≤ 260 ∧ i.toInt = lx_sgn (b k) (b (k + 1)) ∨ i = c ∧ ¬ (b k = 60 ∧ (b (k + 1) = 62 ∨ b (k + 1) = 61)) ∧ ¬ (b k = 62 ∧ b (k + 1) = 61) ∧ ¬ (b k = 58 ∧ b (k + 1) = 61) ∧ ¬ (b k = 46 ∧ b (k + 1) = 46)) → w_X6_sign_108 (zx σ n0 bf) (d - 1) w c (some w) i (zs_sI S 5003 w 3) (zs_kV K Q) := by
    intro i hi
    refine ⟨w, rfl, by simpa [zs_rd] using hK, W.g, ?_⟩
    rintro _ rfl
    refine ⟨by simpa [zs_rd] using hK, ?_⟩
    simp only [zs_rd, and_self, if_true]
    rcases hi with hi | ⟨rfl, hi⟩
    · exact ⟨fun _ => k216 1 i (.inl ⟨rfl, hi.2.2, by omega⟩) hi.2.1, fun g => absurd (zi_lt.mpr (by simp only [zi_lit2]; omega)) g⟩
    · have hsg : lx_sgn (b k) (b (k + 1)) = if b k = 43 ∨ b k = 45 ∨ b k = 42 ∨ b k = 61 ∨ b k = 60 ∨ b k = 62 ∨ b k = 40 ∨ b k = 41 ∨ b k = 91 ∨ b k = 93 ∨ b k = 44 ∨ b k = 59 ∨ b k = 58 ∨ b k = 94 ∨ b k = 46 then b k else 0 := by
        unfold lx_sgn
        rw [if_neg (by omega), if_neg (by omega), if_neg (by omega), if_neg (by omega), if_neg (by omega)]
      have y : (b k = 43 ∨ b k = 45 ∨ b k = 42 ∨ b k = 61 ∨ b k = 60 ∨ b k = 62 ∨ b k = 40 ∨ b k = 41 ∨ b k = 91 ∨ b k = 93 ∨ b k = 44 ∨ b k = 59 ∨ b k = 58 ∨ b k = 94 ∨ b k = 46) → w_X6_sign_216 (zx σ n0 bf) (d - 1) w 1 (zs_sI (zs_sI S 5003 w 3) 5004 w i) (zs_kV K Q) := by
        intro g
        rw [if_pos g] at hsg
        exact k216 1 i (.inl ⟨rfl, by omega, by omega⟩) (by omega)
      have no : ¬ (b k = 43 ∨ b k = 45 ∨ b k = 42 ∨ b k = 61 ∨ b k = 60 ∨ b k = 62 ∨ b k = 40 ∨ b k = 41 ∨ b k = 91 ∨ b k = 93 ∨ b k = 44 ∨ b k = 59 ∨ b k = 58 ∨ b k = 94 ∨ b k = 46) → w_X6_sign_216 (zx σ n0 bf) (d - 1) w 0 (zs_sI (zs_sI S 5003 w 3) 5004 w i) (zs_kV K Q) := by
        intro g
        rw [if_neg g] at hsg
        exact k216 0 i (.inr ⟨rfl, hsg⟩) (by omega)
      refine ⟨fun g => absurd (zi_lt.mp g) (by simp only [zi_lit2]; omega), fun _ => ?_⟩
      refine ⟨fun g => y ?_, fun a1 => ⟨fun g => y ?_, fun a2 => ⟨fun g => y ?_, fun a3 => ⟨fun g => y ?_, fun a4 => ⟨fun g => y ?_, fun a5 => ⟨fun g => y ?_, fun a6 => ⟨fun g => y ?_, fun a7 => ⟨fun g => y ?_, fun a8 => ⟨fun g => y ?_, fun a9 => ⟨fun g => y ?_, fun a10 => ⟨fun g => y ?_, fun a11 => ⟨fun g => y ?_, fun a12 => ⟨fun g => y ?_, fun a13 => ⟨fun g => y ?_, fun a14 => ⟨fun g => no ?_, fun g => y ?_⟩⟩⟩⟩⟩⟩⟩⟩⟩⟩⟩⟩⟩⟩⟩ <;> simp only [zi_eq, zi_lit2, Classical.not_not] at * <;> omega
  refine u_X6_sign hB (by omega) ?_
  refine ⟨W.K, c_b1 hB (by omega) W hk (by omega) ?_⟩
  intro v hv
  refine ⟨W.K, W.g, ?_⟩
  rintro _ rfl
  have two : ∀ (i : Int32) (z : Int), i.toInt = z → z > 255 → z ≤ 260 → z = lx_sgn (b k) (b (k + 1)) → w_X6_sign_108 (zx σ n0 bf) (d - 1) w c (some w) i (zs_sI S 5003 w 3) (zs_kV K Q) := fun i z h1 h2 h3 h4 => k108 i (.inl ⟨by omega, by omega, by omega⟩)
  have k107 : ¬ (b k = 60 ∧ (b (k + 1) = 62 ∨ b (k + 1) = 61)) → ¬ (b k = 62 ∧ b (k + 1) = 61) → ¬ (b k = 58 ∧ b (k + 1) = 61) → ¬ (b k = 46 ∧ b (k + 1) = 46) → w_X6_sign_107 (zx σ n0 bf) (d - 1) w c (some w) (zs_sI S 5003 w 3) (zs_kV K Q) := fun g1 g2 g3 g4 => k108 c (.inr ⟨rfl, g1, g2, g3, g4⟩)
  have k89 : ¬ (b k = 60 ∧ (b (k + 1) = 62 ∨ b (k + 1) = 61)) → ¬ (b k = 62 ∧ b (k + 1) = 61) → ¬ (b k = 58 ∧ b (k + 1) = 61) → w_X6_sign_89 (zx σ n0 bf) (d - 1) w c v (some w) (zs_sI S 5003 w 3) (zs_kV K Q) := by
    intro g1 g2 g3
    refine ⟨fun g => k107 g1 g2 g3 ?_, fun g => ⟨fun a => k107 g1 g2 g3 ?_, fun a => two _ 260 rfl (by omega) (by omega) ?_⟩⟩ <;> simp only [zi_eq, zi_lit2, Classical.not_not] at *
    · omega
    · omega
    · unfold lx_sgn
      rw [if_neg (by omega), if_neg (by omega), if_neg (by omega), if_neg (by omega), if_pos (by omega)]
  have k71 : ¬ (b k = 60 ∧ (b (k + 1) = 62 ∨ b (k + 1) = 61)) → ¬ (b k = 62 ∧ b (k + 1) = 61) → w_X6_sign_71 (zx σ n0 bf) (d - 1) w c v (some w) (zs_sI S 5003 w 3) (zs_kV K Q) := by
    intro g1 g2
    refine ⟨fun g => k89 g1 g2 ?_, fun g => ⟨fun a => k89 g1 g2 ?_, fun a => two _ 259 rfl (by omega) (by omega) ?_⟩⟩ <;> simp only [zi_eq, zi_lit2, Classical.not_not] at *
    · omega
    · omega
    · unfold lx_sgn
      rw [if_neg (by omega), if_neg (by omega), if_neg (by omega), if_pos (by omega)]
  have k53 : ¬ (b k = 60 ∧ (b (k + 1) = 62 ∨ b (k + 1) = 61)) → w_X6_sign_53 (zx σ n0 bf) (d - 1) w c v (some w) (zs_sI S 5003 w 3) (zs_kV K Q) := by
    intro g1
    refine ⟨fun g => k71 g1 ?_, fun g => ⟨fun a => k71 g1 ?_, fun a => two _ 258 rfl (by omega) (by omega) ?_⟩⟩ <;> simp only [zi_eq, zi_lit2, Classical.not_not] at *
    · omega
    · omega
    · unfold lx_sgn
      rw [if_neg (by omega), if_neg (by omega), if_pos (by omega)]
  have k35 : ¬ (b k = 60 ∧ b (k + 1) = 62) → w_X6_sign_35 (zx σ n0 bf) (d - 1) w c v (some w) (zs_sI S 5003 w 3) (zs_kV K Q) := by
    intro g1
    refine ⟨fun g => k53 ?_, fun g => ⟨fun a => k53 ?_, fun a => two _ 257 rfl (by omega) (by omega) ?_⟩⟩ <;> simp only [zi_eq, zi_lit2, Classical.not_not] at *
    · omega
    · omega
    · unfold lx_sgn
      rw [if_neg (by omega), if_pos (by omega)]
  refine ⟨fun g => k35 ?_, fun g => ⟨fun a => k35 ?_, fun a => two _ 256 rfl (by omega) (by omega) ?_⟩⟩ <;> simp only [zi_eq, zi_lit2, Classical.not_not] at *
  · omega
  · omega
  · unfold lx_sgn
    rw [if_pos (by omega)]
theorem c_X6_text_17 (hB : zt_B bf) (L : zb (zx σ n0 bf) n0) (hd : 11 ≤ d) (htp : tp ≠ w) {p : Int} (f : Nat) : ∀ {S : zs_T} {k c : Nat} {p1 : Int32}, cw_t n0 S w tp n b → w < zs_N S → (zs_I S 5005 w).toInt = p → (zs_I S 5002 w).toInt = k → k ≤ n → n < k + f → p1.toInt = c → c + f ≤ 100000 →
    (∀ v k1 c1, lx_txt b f k c = some (k1, c1) → 1 ≤ c1 → c1 ≤ 80 → k < k1 → k1 ≤ n → v.toInt = (k1 : Int) → Q (.returned none) (zs_sI S 5002 w v)) →
    (∀ a v S1, (∀ k1 c1, lx_txt b f k c = some (k1, c1) → c1 = 0 ∨ 80 < c1) → zft n0 (zs_sI S 5002 w v) 1 p a S1 → Q (.threw a) S1) →
    zs_U (zx σ n0 bf) d 5013 17 [(0, .ref w), (1, .int p1)] [] S Q := by
  induction f with
  | zero => intro S k c p1 W _ _ _ _ h3; omega
  | succ f ih =>
    intro S k c p1 W hw hp hk h2 h3 hc hc2 hr ht
    have he := W.e
    have hs := W.small
    have hend := W.ends k
    have hend1 := W.ends (k + 1)
    have hrng := W.rng k
    have hcs := lx_c_spec b k
    have hcs1 := lx_c_spec b (k + 1)
    have kx : (∀ k1 c1, lx_txt b (f + 1) k c = some (k1, c1) → c1 = 0 ∨ 80 < c1) → w_X6_text_137 (zx σ n0 bf) d w S Q := by
      intro g
      refine c_wfault hB L hd W.K W.N hw (K := fun a S7 => Q (.threw a) S7) hp ?_
      intro S1 h1
      exact ht _ (zs_I S 5002 w) S1 g (by rw [zs_sI0]; exact h1)
    have k115 : n ≤ k ∨ b k = 39 ∧ b (k + 1) ≠ 39 → w_X6_text_115 (zx σ n0 bf) d w p1 S Q := by
      intro g
      refine ⟨W.K, fun g1 => kx ?_, fun g1 => ⟨fun g2 => kx ?_, fun g2 => ⟨fun g3 => ⟨W.g, ?_⟩, fun g3 => kx ?_⟩⟩⟩ <;> simp only [zi_le, zi_lt, zi_lit, zi_lit2] at *
      · intro k1 c1 g5
        have : b k = -1 := by omega
        simp [lx_txt, this] at g5
      · intro k1 c1 g5
        have e1 : b k ≠ -1 := by omega
        rw [lx_txt, if_neg e1, if_pos (by omega)] at g5
        simp only [Option.some.injEq, Prod.mk.injEq] at g5
        omega
      · rintro _ rfl
        have e1 : b k ≠ -1 := by omega
        refine hr _ (k + 1) c (by rw [lx_txt, if_neg e1, if_pos (by omega)]) (by omega) (by omega) (by omega) (by omega) ?_
        rw [zi_add] <;> simp only [zi_lit] <;> omega
      · intro k1 c1 g5
        have e1 : b k ≠ -1 := by omega
        rw [lx_txt, if_neg e1, if_pos (by omega)] at g5
        simp only [Option.some.injEq, Prod.mk.injEq] at g5
        omega
    have k56 : b k ≠ -1 → ¬ (b k = 39 ∧ b (k + 1) ≠ 39) → w_X6_text_56 (zx σ n0 bf) d w p1 S Q := by
      intro g1 g2
      refine ⟨W.K, c_b0 hB (by omega) W hk ?_⟩
      intro v hv
      have key : ∀ (q : Int32) (k2 : Nat), ¬ b k < 32 → (zs_I S 5002 w + q).toInt = k2 → k2 = (if b k = 39 then k + 2 else k + 1) → w_X6_text_105 (zx σ n0 bf) d w p1 (some w) (zs_I S 5002 w) q S Q := by
        intro q k2 g5 hq hk2
        refine ⟨w, rfl, W.K, W.g, ?_⟩
        rintro _ rfl
        have hst : lx_txt b (f + 1) k c = lx_txt b f k2 (c + 1) := by rw [lx_txt, if_neg g1, if_neg g2, if_neg g5, hk2]
        have hkk : k < k2 ∧ k2 ≤ n := by rw [hk2]; split <;> omega
        refine ih (W.sI (by decide)) (by simpa [zs_rd] using hw) (by simpa [zs_rd] using hp) (k := k2) (c := c + 1) (by simp only [zs_rd, and_self, if_true]; exact hq) hkk.2 (by omega) (by rw [zi_add] <;> simp only [zi_lit] <;> omega) (by omega) ?_ ?_
        · intro v k1 c1 g6 g7 g8 g9 g10 g11
          rw [zs_sI2]
          exact hr v k1 c1 (hst.trans g6) g7 g8 (by omega) g10 g11
        · intro a v S1 g6 g7
          rw [zs_sI2] at g7
          exact ht a v S1 (fun k1 c1 g8 => g6 k1 c1 (hst.symm.trans g8)) g7
      refine ⟨fun g3 => ?_, fun g3 => ?_⟩ <;> simp only [zi_le, zi_lit2] at g3
      · refine ⟨W.K, c_b0 hB (by omega) W hk ?_⟩
        intro v2 hv2
        refine ⟨fun g4 => key 1 (k + 1) (by omega) ?_ ?_, fun g4 => key 2 (k + 2) (by omega) ?_ ?_⟩ <;> simp only [zi_eq, zi_lit2, Classical.not_not] at g4
        · rw [zi_add] <;> simp only [zi_lit] <;> omega
        · rw [if_neg (by omega)]
        · rw [zi_add] <;> simp only [zi_lit] <;> omega
        · rw [if_pos (by omega)]
      · refine kx ?_
        intro k1 c1 g5
        rw [lx_txt, if_neg g1, if_neg g2, if_pos (by omega)] at g5
        cases g5
    refine u_X6_text_17 hB ?_
    refine ⟨W.K, fun g => k115 ?_, fun g => ?_⟩ <;> simp only [zi_le] at g
    · omega
    · refine c_b0 hB (by omega) W hk ?_
      intro v hv
      refine ⟨fun g1 => k56 ?_ ?_, fun g1 => ?_⟩ <;> simp only [zi_eq, zi_lit2, Classical.not_not] at g1
      · omega
      · omega
      · refine ⟨W.K, c_b1 hB (by omega) W hk (by omega) ?_⟩
        intro v2 hv2
        refine ⟨fun g2 => k115 ?_, fun g2 => k56 ?_ ?_⟩ <;> simp only [zi_eq, zi_lit2, Classical.not_not] at g2
        · omega
        · omega
        · omega
end CW4
