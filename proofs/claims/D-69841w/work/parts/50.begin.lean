/-! THE WORDS BEGIN -/
theorem zstr_len : (zstr 5).length = 198 ∧ (zstr 6).length = 134 := by decide +kernel
/-- what is fixed of the words w -/
def cw_s (n0 : Nat) (S : zs_T) (w le st nx ch : Nat) : Prop := (zs_K S w = some (.inl 5)) ∧ (n0 ≤ w) ∧ (zs_R S 5008 w = some le) ∧ (zs_R S 5009 w = some st) ∧ (zs_R S 5010 w = some nx) ∧ (zs_R S 5011 w = some ch) ∧ (zs_K S le = some (.inr (1, 33792))) ∧ (zs_K S st = some (.inr (0, 16640))) ∧ (zs_K S nx = some (.inr (0, 16640))) ∧ (zs_K S ch = some (.inr (0, 1024))) ∧ (n0 ≤ le ∧ n0 ≤ st ∧ n0 ≤ nx ∧ n0 ≤ ch) ∧ (le ≠ st ∧ le ≠ nx ∧ le ≠ ch ∧ st ≠ nx ∧ st ≠ ch ∧ nx ≠ ch ∧ w ≠ le ∧ w ≠ st ∧ w ≠ nx ∧ w ≠ ch)
theorem cw_s.K {n0 : Nat} {S : zs_T} {w le st nx ch : Nat} (W : cw_s n0 S w le st nx ch) : zs_K S w = some (.inl 5) := W.1
theorem cw_s.g {n0 : Nat} {S : zs_T} {w le st nx ch : Nat} (W : cw_s n0 S w le st nx ch) : n0 ≤ w := W.2.1
theorem cw_s.Rl {n0 : Nat} {S : zs_T} {w le st nx ch : Nat} (W : cw_s n0 S w le st nx ch) : zs_R S 5008 w = some le := W.2.2.1
theorem cw_s.Rs {n0 : Nat} {S : zs_T} {w le st nx ch : Nat} (W : cw_s n0 S w le st nx ch) : zs_R S 5009 w = some st := W.2.2.2.1
theorem cw_s.Rn {n0 : Nat} {S : zs_T} {w le st nx ch : Nat} (W : cw_s n0 S w le st nx ch) : zs_R S 5010 w = some nx := W.2.2.2.2.1
theorem cw_s.Rc {n0 : Nat} {S : zs_T} {w le st nx ch : Nat} (W : cw_s n0 S w le st nx ch) : zs_R S 5011 w = some ch := W.2.2.2.2.2.1
theorem cw_s.Kl {n0 : Nat} {S : zs_T} {w le st nx ch : Nat} (W : cw_s n0 S w le st nx ch) : zs_K S le = some (.inr (1, 33792)) := W.2.2.2.2.2.2.1
theorem cw_s.Ks {n0 : Nat} {S : zs_T} {w le st nx ch : Nat} (W : cw_s n0 S w le st nx ch) : zs_K S st = some (.inr (0, 16640)) := W.2.2.2.2.2.2.2.1
theorem cw_s.Kn {n0 : Nat} {S : zs_T} {w le st nx ch : Nat} (W : cw_s n0 S w le st nx ch) : zs_K S nx = some (.inr (0, 16640)) := W.2.2.2.2.2.2.2.2.1
theorem cw_s.Kc {n0 : Nat} {S : zs_T} {w le st nx ch : Nat} (W : cw_s n0 S w le st nx ch) : zs_K S ch = some (.inr (0, 1024)) := W.2.2.2.2.2.2.2.2.2.1
theorem cw_s.gl {n0 : Nat} {S : zs_T} {w le st nx ch : Nat} (W : cw_s n0 S w le st nx ch) : n0 ≤ le ∧ n0 ≤ st ∧ n0 ≤ nx ∧ n0 ≤ ch := W.2.2.2.2.2.2.2.2.2.2.1
theorem cw_s.ne {n0 : Nat} {S : zs_T} {w le st nx ch : Nat} (W : cw_s n0 S w le st nx ch) : le ≠ st ∧ le ≠ nx ∧ le ≠ ch ∧ st ≠ nx ∧ st ≠ ch ∧ nx ≠ ch ∧ w ≠ le ∧ w ≠ st ∧ w ≠ nx ∧ w ≠ ch := W.2.2.2.2.2.2.2.2.2.2.2
theorem cw_s.mk {n0 : Nat} {S : zs_T} {w le st nx ch : Nat} (h0 : zs_K S w = some (.inl 5)) (h1 : n0 ≤ w) (h2 : zs_R S 5008 w = some le) (h3 : zs_R S 5009 w = some st) (h4 : zs_R S 5010 w = some nx) (h5 : zs_R S 5011 w = some ch) (h6 : zs_K S le = some (.inr (1, 33792))) (h7 : zs_K S st = some (.inr (0, 16640))) (h8 : zs_K S nx = some (.inr (0, 16640))) (h9 : zs_K S ch = some (.inr (0, 1024))) (h10 : n0 ≤ le ∧ n0 ≤ st ∧ n0 ≤ nx ∧ n0 ≤ ch) (h11 : le ≠ st ∧ le ≠ nx ∧ le ≠ ch ∧ st ≠ nx ∧ st ≠ ch ∧ nx ≠ ch ∧ w ≠ le ∧ w ≠ st ∧ w ≠ nx ∧ w ≠ ch) : cw_s n0 S w le st nx ch := ⟨h0, h1, h2, h3, h4, h5, h6, h7, h8, h9, h10, h11⟩
section CB
variable {σ : Nat → Nat} {n0 : Nat} {bf : ab_B} {d : Nat} {S S1 : zs_T} {Q : zs_Q} {w tp n le st nx ch : Nat} {b : Nat → Int} {L : List (List Int)}
theorem cw_n.s (W : cw_n n0 S w le st nx ch L) : cw_s n0 S w le st nx ch := ⟨W.K, W.g, W.Rl, W.Rs, W.Rn, W.Rc, W.Kl, W.Ks, W.Kn, W.Kc, W.gl, W.ne⟩
theorem cw_s.F (W : cw_s n0 S w le st nx ch) (h : cw_F S S1 w le st nx ch) : cw_s n0 S1 w le st nx ch := ⟨(h.K _).trans W.K, W.g, (h.R _).trans W.Rl, (h.R _).trans W.Rs, (h.R _).trans W.Rn, (h.R _).trans W.Rc, (h.K _).trans W.Kl, (h.K _).trans W.Ks, (h.K _).trans W.Kn, (h.K _).trans W.Kc, W.gl, W.ne⟩
/-- names out of a constant string -/
theorem c_X6_all_4 (hB : zt_B bf) (Ls : zbs (zx σ n0 bf) σ) (hd : 7 ≤ d) {q : Nat} (hq : 3 ≤ q ∧ q ≤ 6) (hne : σ q ≠ w ∧ σ q ≠ le ∧ σ q ≠ st ∧ σ q ≠ nx ∧ σ q ≠ ch) (hlen : (zstr q).length ≤ 1000) :
    ∀ (r : List Int) {S : zs_T} {p2 p3 : Int32} {L : List (List Int)} {cur : List Int} {k : Nat}, (zstr q).drop k = r → cw_n n0 S w le st nx ch L → zs_K S (σ q) = some (.inl 20) → p3.toInt = k → k + r.length = (zstr q).length → p2.toInt = cur.length → nm_okr cur r = true → (∀ c ∈ cur, 0 ≤ c ∧ c ≤ 127) → (∀ j, j < cur.length → (zs_i S le (nm_off L L.length + j)).toInt = cur.getD j 0) → nm_off L L.length + cur.length + r.length ≤ 2000 → L.length + r.length ≤ 2000 →
    (∀ S1, cw_n n0 S1 w le st nx ch (nm_all L cur r).1 → cw_F S S1 w le st nx ch → (∀ f, f ≠ 5012 → zs_I S1 f w = zs_I S f w) → Q (.returned none) S1) →
    zs_U (zx σ n0 bf) d 5002 4 [(0, .ref w), (1, va_rf (some (σ q))), (2, .int p2), (3, .int p3)] [] S Q := by
  intro r
  induction r with
  | nil =>
    intro S p2 p3 L cur k e1 W hK h3 hk h2 hok hcur hlet hb1 hb2 kk
    refine u_X6_all_4 hB ?_
    refine ⟨σ q, rfl, hK, Ls.len hq.1 hq.2 (by omega) hK ?_⟩
    have e : (Int32.ofNat (zstr q).length).toInt = (zstr q).length := Int32.toInt_ofNat_of_lt (by omega)
    simp only [List.length_nil] at hk
    refine ⟨fun _ => ?_, fun g => absurd (zi_le.mpr (by omega)) g⟩
    exact kk S W (cw_F.refl _ _ _ _ _ _) (fun _ _ => rfl)
  | cons c r ih =>
    intro S p2 p3 L cur k e1 W hK h3 hk h2 hok hcur hlet hb1 hb2 kk
    simp only [List.length_cons] at hk hb1 hb2
    have hkl : k < (zstr q).length := by omega
    have hc : (zstr q).getD k 0 = c := by
      have h9 : (zstr q)[k]? = some c := by
        have := congrArg List.head? e1
        rw [List.head?_drop] at this
        exact this
      simp [List.getD, h9]
    have e2 : (zstr q).drop (k + 1) = r := by rw [← List.drop_drop, e1]; rfl
    simp only [nm_okr, Bool.and_eq_true, decide_eq_true_eq] at hok
    obtain ⟨⟨hc0, hc1, hcl⟩, hok⟩ := hok
    have e : (Int32.ofNat (zstr q).length).toInt = (zstr q).length := Int32.toInt_ofNat_of_lt (by omega)
    have hp3 : (p3 + 1).toInt = ((k + 1 : Nat) : Int) := by rw [zi_add] <;> simp only [zi_lit] <;> omega
    refine u_X6_all_4 hB ?_
    refine ⟨σ q, rfl, hK, Ls.len hq.1 hq.2 (by omega) hK ?_⟩
    refine ⟨fun g => absurd (zi_le.mp g) (by omega), fun _ => ⟨hK, Ls.chr hq.1 hq.2 (by omega) hK (by omega) (by omega) ?_⟩⟩
    intro v9 hv9
    have e3 : p3.toInt.toNat = k := by omega
    rw [e3, hc] at hv9
    refine ⟨fun g => ⟨W.K, ?_⟩, fun g => ?_⟩ <;> simp only [zi_eq, zi_lit2] at g
    · have hc32 : c = 32 := by omega
      rw [nm_all, if_pos hc32] at kk
      rw [if_pos hc32] at hok
      have hbd := nm_enter_bd (L := L) (x := cur)
      refine c_X6_enter hB (by omega) W h2 hlet ⟨hcl, hcur⟩ (by omega) ?_
      intro S1 v q1 q2 q3
      have hK1 : zs_K S1 (σ q) = some (.inl 20) := (q3.K _).trans hK
      refine ih (k := k + 1) (cur := []) e2 q1 hK1 hp3 (by omega) rfl hok (fun c hc => by cases hc) (fun j hj => by simp at hj) (by simp only [List.length_nil]; omega) (by omega) ?_
      intro S2 q4 q5 q6
      exact kk S2 q4 (q3.F.trans q5) (fun f hf => (q6 f hf).trans (q3.I f hf))
    · have hc32 : ¬ c = 32 := by omega
      rw [nm_all, if_neg hc32] at kk
      rw [if_neg hc32] at hok
      obtain ⟨n1, n2, n3, n4, n5, n6, n7, n8, n9, n10⟩ := W.ne
      have hnn := W.nn
      have ho := W.off L.length (Nat.le_refl _)
      have e4 : (zs_I S 5012 w).toNatClampNeg = L.length := by rw [zi_nat]; omega
      refine ⟨W.K, st, W.Rs, zi_A W.Ks (by omega) (by omega), hK, Ls.chr hq.1 hq.2 (by omega) hK (by omega) (by omega) ?_⟩
      intro v20 hv20
      rw [e3, hc] at hv20
      rw [e4]
      have e5 : (zs_i S st L.length + p2).toInt = nm_off L L.length + cur.length := by rw [zi_add] <;> omega
      have e6 : (zs_i S st L.length + p2).toNatClampNeg = nm_off L L.length + cur.length := by rw [zi_nat]; omega
      refine ⟨le, W.Rl, zi_A W.Kl (by omega) (by omega), W.gl.1, ?_⟩
      rintro _ rfl
      rw [e6]
      have O : cw_o S (zs_si S le (nm_off L L.length + cur.length) (vp_nar .byte v20.toInt8.toInt32)) w le (nm_off L L.length) := (cw_o.refl _ _ _ _).letter (by omega) n7
      refine ih (k := k + 1) (cur := cur ++ [c]) e2 (W.o O) (by simpa [zs_rda] using hK) hp3 (by omega) ?_ hok ?_ ?_ (by simp only [List.length_append, List.length_singleton]; omega) (by omega) ?_
      · rw [List.length_append, List.length_singleton, zi_add] <;> simp only [zi_lit] <;> omega
      · intro c9 hc9
        rcases List.mem_append.mp hc9 with h | h
        · exact hcur c9 h
        · rw [List.mem_singleton.mp h]; exact ⟨hc0, hc1⟩
      · intro j hj
        simp only [List.length_append, List.length_singleton] at hj
        by_cases ej : j = cur.length
        · subst ej
          simp only [zs_rda, and_self, if_true]
          rw [zi_byte hv20 hc0 hc1]
          simp [List.getD]
        · have h9 := hlet j (by omega)
          have h8 : (cur ++ [c]).getD j 0 = cur.getD j 0 := by simp [List.getD, List.getElem?_append_left (show j < cur.length by omega)]
          rw [h8, ← h9]
          simp [zs_rda, ej]
      · intro S2 q4 q5 q6
        exact kk S2 q4 (O.F.trans q5) (fun f hf => (q6 f hf).trans (by simp [zs_rda]))
theorem nm_last_nil (H : List Int → Int) (h : Int) : nm_last H [] h 0 = -1 := rfl
/-- the chains are emptied -/
theorem c_X6_begin_29 (hB : zt_B bf) (W0 : cw_s n0 S w le st nx ch)
    (kk : ∀ S1, cw_F S S1 w le st nx ch → (∀ f, zs_I S1 f w = zs_I S f w) → (∀ j, zs_i S1 st j = zs_i S st j) → (∀ j, j < 1024 → (zs_i S1 ch j).toInt = -1) → w_X6_begin_29 (zx σ n0 bf) d w 1024 S1 Q) :
    ∀ (f k : Nat) {S2 : zs_T} {p3 : Int32}, k + f = 1024 → p3.toInt = k → cw_F S S2 w le st nx ch → (∀ f, zs_I S2 f w = zs_I S f w) → (∀ j, zs_i S2 st j = zs_i S st j) → (∀ j, j < k → (zs_i S2 ch j).toInt = -1) → zs_U (zx σ n0 bf) d 5001 29 [(0, .ref w), (3, .int p3)] [] S2 Q
  | 0, k, S2, p3, e1, e2, F2, i2, s2, h2 => by
    have : k = 1024 := by omega
    subst this
    have : p3 = 1024 := zi_eq.mpr (by rw [e2]; rfl)
    subst this
    exact u_X6_begin_29 hB (kk S2 F2 i2 s2 h2)
  | f + 1, k, S2, p3, e1, e2, F2, i2, s2, h2 => by
    have W2 := W0.F F2
    obtain ⟨n1, n2, n3, n4, n5, n6, n7, n8, n9, n10⟩ := W0.ne
    refine u_X6_begin_29 hB ?_
    refine ⟨W2.K, ch, W2.Rc, 1024, W2.Kc, fun g => absurd (zi_le.mp g) ?_, fun _ => ⟨zi_A W2.Kc (by omega) (by omega), W0.gl.2.2.2, ?_⟩⟩
    · rw [show (Int32.ofNat 1024).toInt = 1024 from by decide]; omega
    rintro _ rfl
    have e3 : p3.toNatClampNeg = k := by rw [zi_nat]; omega
    rw [e3]
    refine c_X6_begin_29 hB W0 kk f (k + 1) (by omega) (by rw [zi_add] <;> simp only [zi_lit] <;> omega) (F2.trans ⟨fun a h1 _ _ _ h5 => zf_si h5, fun a => by simp [zs_rda], fun f _ _ => by simp [zs_rda], fun f => by simp [zs_rda], fun f _ => by simp [zs_rda], by simp [zs_rda], by simp [zs_rda]⟩) (fun f => by simpa [zs_rda] using i2 f) (fun j => by simpa [zs_rda, n5] using s2 j) ?_
    intro j hj
    by_cases e : j = k
    · subst e; simp [zs_rda]
    · simpa [zs_rda, e] using h2 j (by omega)
/-- the words of a tape begin -/
theorem c_X6_begin (hB : zt_B bf) (Lb : zb (zx σ n0 bf) n0) (Ls : zbs (zx σ n0 bf) σ) (hd : 16 ≤ d) (htp : tp ≠ w ∧ tp ≠ le ∧ tp ≠ st ∧ tp ≠ nx ∧ tp ≠ ch) (hσ : ∀ q, q = 5 ∨ q = 6 → zs_K S (σ q) = some (.inl 20) ∧ σ q ≠ w ∧ σ q ≠ le ∧ σ q ≠ st ∧ σ q ≠ nx ∧ σ q ≠ ch) (W0 : cw_s n0 S w le st nx ch) (hw : w < zs_N S) (hN : n0 ≤ zs_N S) (hT : zs_K S tp = some (.inr (1, 32768))) {p2 : Int32} (h2 : p2.toInt = n) (hn : n ≤ 1300) (hb : b = lx_bt (zs_i S tp) n) {K : zs_T → Prop}
    (hr : ∀ S0 S1 k t, S0 = zs_sI (zs_sR S 5000 w (some tp)) 5001 w p2 → lx_next b (n + 1) nm_L0 0 = .ok (k, t) → k ≤ t.2.2.1 → t.2.2.1 ≤ n → cw_F S0 S1 w le st nx ch → cw_t n0 S1 w tp n b → cw_n n0 S1 w le st nx ch t.2.2.2 → cw_w S1 w (k, t.1, t.2.1, t.2.2.1) → nm_off t.2.2.2 t.2.2.2.length ≤ 400 + t.2.2.1 ∧ t.2.2.2.length ≤ 60 + t.2.2.1 → K S1)
    (ht : ∀ S0 p a S1 S2, S0 = zs_sI (zs_sR S 5000 w (some tp)) 5001 w p2 → lx_next b (n + 1) nm_L0 0 = .error p → cw_F S0 S2 w le st nx ch → zft n0 S2 1 p a S1 → Q (.threw a) S1) :
    zs_C (zx σ n0 bf) d 5001 [.ref w, .ref tp, .int p2] S (zs_kV K Q) := by
  obtain ⟨n1, n2, n3, n4, n5, n6, n7, n8, n9, n10⟩ := W0.ne
  refine u_X6_begin (p1 := some tp) hB (by omega) ?_
  refine ⟨W0.K, W0.g, ?_⟩
  rintro _ rfl _ rfl _ rfl _ rfl
  refine ⟨st, by simpa [zs_rd] using W0.Rs, zi_A W0.Ks (by decide) (by decide), W0.gl.2.1, ?_⟩
  rintro _ rfl
  generalize hS0 : zs_sI (zs_sR S 5000 w (some tp)) 5001 w p2 = S0
  have K0 : ∀ a, zs_K S0 a = zs_K S a := fun a => by rw [← hS0]; simp [zs_rd]
  have W00 : cw_s n0 S0 w le st nx ch := ⟨(K0 _).trans W0.K, W0.g, by rw [← hS0]; simpa [zs_rd] using W0.Rl, by rw [← hS0]; simpa [zs_rd] using W0.Rs, by rw [← hS0]; simpa [zs_rd] using W0.Rn, by rw [← hS0]; simpa [zs_rd] using W0.Rc, (K0 _).trans W0.Kl, (K0 _).trans W0.Ks, (K0 _).trans W0.Kn, (K0 _).trans W0.Kc, W0.gl, W0.ne⟩
  have F1 : cw_F S0 (zs_si (zs_sI (zs_sI S0 5002 w 0) 5012 w 0) st (0 : Int32).toNatClampNeg 0) w le st nx ch := ⟨fun a h1 _ h3 _ _ => zf_trans (zf_sI h1) (zf_trans (zf_sI h1) (zf_si h3)), fun a => by simp [zs_rd, zs_rda], fun f hf hg => by
      simp only [zs_rd, zs_rda]
      rw [if_neg (by omega), if_neg (by omega)], fun f => by simp [zs_rd, zs_rda], fun f _ => by simp [zs_rd, zs_rda], by simp [zs_rd, zs_rda], by simp [zs_rd, zs_rda]⟩
  have T0 : cw_t n0 S0 w tp n b := ⟨W00.K, W0.g, by rw [← hS0]; simp [zs_rd], ⟨32768, (K0 _).trans hT, by omega⟩, by rw [← hS0]; simp [zs_rd, h2], by rw [hb]; congr 1; funext j; rw [← hS0]; simp [zs_rd], by omega, by rw [← hS0]; simpa [zs_rd] using hN⟩
  have N0 : zs_N S0 = zs_N S := by rw [← hS0]; simp [zs_rd]
  refine c_X6_begin_29 hB (W00.F F1) ?_ 1024 0 (by omega) rfl (cw_F.refl _ _ _ _ _ _) (fun _ => rfl) (fun _ => rfl) (fun j hj => by omega)
  intro S1 q1 q2 q3 q4
  have F2 := F1.trans q1
  have W1 := W00.F F2
  refine ⟨W1.K, ch, W1.Rc, 1024, W1.Kc, fun _ => ?_, fun g => absurd (by decide) g⟩
  have M1 : cw_n n0 S1 w le st nx ch [] := by
    refine ⟨W1.K, W1.g, W1.Rl, W1.Rs, W1.Rn, W1.Rc, W1.Kl, W1.Ks, W1.Kn, W1.Kc, W1.gl, W1.ne, ?_, ?_, ?_, ?_, ?_, ?_, ?_⟩
    · rw [q2]; simp [zs_rd, zs_rda]
    · intro i hi
      have : i = 0 := by simpa using hi
      subst this
      rw [q3]
      simp [zs_rd, zs_rda, nm_off]
    · intro i j hi; simp at hi
    · intro h hh; rw [q4 h hh]; rfl
    · intro i hi; simp at hi
    · intro i hi; simp at hi
    · simp [nm_off]
  have s5 : zs_str (zx σ n0 bf) 5001 39 = σ 5 := rfl
  have s6 : zs_str (zx σ n0 bf) 5001 45 = σ 6 := rfl
  rw [s5, s6]
  have KA : ∀ a, zs_K S1 a = zs_K S a := fun a => (F2.K a).trans (K0 a)
  refine u_X6_all (p1 := some (σ 5)) hB (by omega) ?_
  obtain ⟨z1, z2⟩ := zstr_len
  refine c_X6_all_4 hB Ls (by omega) (q := 5) ⟨by omega, by omega⟩ (hσ 5 (.inl rfl)).2 (by omega) (zstr 5) (L := []) (cur := []) (k := 0) rfl M1 ((KA _).trans (hσ 5 (.inl rfl)).1) rfl (by omega) rfl nm_okr5 (fun c hc => by cases hc) (fun j hj => by simp at hj) (by simp [nm_off]; omega) (by simp; omega) ?_
  intro S2 q5 q6 q7
  have F3 := F2.trans q6
  refine ⟨q5.K, ?_⟩
  refine u_X6_all (p1 := some (σ 6)) hB (by omega) ?_
  have hbd := nm_all_bd (zstr 5) [] []
  simp only [nm_off, List.length_nil] at hbd
  refine c_X6_all_4 hB Ls (by omega) (q := 6) ⟨by omega, by omega⟩ (hσ 6 (.inr rfl)).2 (by omega) (zstr 6) (cur := []) (k := 0) rfl q5 ((q6.K _).trans ((KA _).trans (hσ 6 (.inr rfl)).1)) rfl (by omega) rfl nm_okr6 (fun c hc => by cases hc) (fun j hj => by simp at hj) (by simp only [List.length_nil]; omega) (by omega) ?_
  intro S3 q8 q9 q10
  rw [nm_L0_eq] at q8
  have F4 := F3.trans q9
  have e2 : zs_I S3 5002 w = 0 := by rw [q10 5002 (by decide), q7 5002 (by decide), q2]; simp [zs_rd, zs_rda]
  refine ⟨q8.K, c_X6_next hB Lb (by omega) htp (k0 := 0) (T0.F F4 htp) q8 (by rw [F4.N, N0]; exact hw) (by rw [e2]; rfl) (by omega) hn (by rw [nm_L0_off, nm_L0_len]; omega) ?_ ?_⟩
  · intro S4 k t g1 g2 g3 g4 g5 g6 g7 g8 g9
    exact hr S0 S4 k t hS0.symm g1 g3 g4 (F4.trans g5) g6 g7 g8 g9
  · intro p a S4 S5 g1 g2 g3
    exact ht S0 p a S4 S5 hS0.symm g1 (F4.trans g2) g3
end CB
