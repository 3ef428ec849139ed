/-! THE REFERENCE'S NEXT WORD -/
def mLF : List Nat := [8005, 8006, 8007, 8008, 8009, 8010, 8011, 8013, 8014, 8015, 8016, 8017, 8018, 8019, 8020, 8021, 8023]
/-- the word at hand: where it begins, its kind, value, where it ends; of a text its bytes -/
def mw_w (S : zs_T) (m : Nat) (A : Nat → Nat) (b : Nat → Int) (n : Nat) (t : Nat × Int × Int × Nat) : Prop := (zs_I S 8010 m = 0) ∧ (t.2.1 = 4 → (zs_I S 8006 m).toInt = 0) ∧ (t.2.1 = 0 → (zs_I S 8006 m).toInt = (if t.2.2.1 < 36 then 2 else 1) ∧ (zs_I S 8009 m).toInt = t.2.2.1 + 1) ∧ (t.2.1 = 1 → (zs_I S 8006 m).toInt = 3 ∧ (zs_I S 8009 m).toInt = t.2.2.1) ∧ (t.2.1 = 2 → (zs_I S 8006 m).toInt = 4 ∧ zs_I S 8009 m = zs_I S 8022 m ∧ (zs_I S 8023 m).toInt = t.2.2.1 ∧ ∀ j, j < (lx_txb b (n + 1) (t.1 + 1)).length → (zs_i S (A 8021) ((zs_I S 8022 m).toInt.toNat + j) &&& 255).toInt = (lx_txb b (n + 1) (t.1 + 1)).getD j 0) ∧ (t.2.1 = 3 → (zs_I S 8006 m).toInt = 5 ∧ (zs_I S 8009 m).toInt = lx_sr t.2.2.1) ∧ ((zs_I S 8007 m).toInt = t.1) ∧ ((zs_I S 8005 m).toInt = t.2.2.2)
theorem mw_w.ok {S : zs_T} {m : Nat} {A : Nat → Nat} {b : Nat → Int} {n : Nat} {t : Nat × Int × Int × Nat} (W : mw_w S m A b n t) : zs_I S 8010 m = 0 := W.1
theorem mw_w.fin {S : zs_T} {m : Nat} {A : Nat → Nat} {b : Nat → Int} {n : Nat} {t : Nat × Int × Int × Nat} (W : mw_w S m A b n t) : t.2.1 = 4 → (zs_I S 8006 m).toInt = 0 := W.2.1
theorem mw_w.name {S : zs_T} {m : Nat} {A : Nat → Nat} {b : Nat → Int} {n : Nat} {t : Nat × Int × Int × Nat} (W : mw_w S m A b n t) : t.2.1 = 0 → (zs_I S 8006 m).toInt = (if t.2.2.1 < 36 then 2 else 1) ∧ (zs_I S 8009 m).toInt = t.2.2.1 + 1 := W.2.2.1
theorem mw_w.num {S : zs_T} {m : Nat} {A : Nat → Nat} {b : Nat → Int} {n : Nat} {t : Nat × Int × Int × Nat} (W : mw_w S m A b n t) : t.2.1 = 1 → (zs_I S 8006 m).toInt = 3 ∧ (zs_I S 8009 m).toInt = t.2.2.1 := W.2.2.2.1
theorem mw_w.txt {S : zs_T} {m : Nat} {A : Nat → Nat} {b : Nat → Int} {n : Nat} {t : Nat × Int × Int × Nat} (W : mw_w S m A b n t) : t.2.1 = 2 → (zs_I S 8006 m).toInt = 4 ∧ zs_I S 8009 m = zs_I S 8022 m ∧ (zs_I S 8023 m).toInt = t.2.2.1 ∧ ∀ j, j < (lx_txb b (n + 1) (t.1 + 1)).length → (zs_i S (A 8021) ((zs_I S 8022 m).toInt.toNat + j) &&& 255).toInt = (lx_txb b (n + 1) (t.1 + 1)).getD j 0 := W.2.2.2.2.1
theorem mw_w.sgn {S : zs_T} {m : Nat} {A : Nat → Nat} {b : Nat → Int} {n : Nat} {t : Nat × Int × Int × Nat} (W : mw_w S m A b n t) : t.2.1 = 3 → (zs_I S 8006 m).toInt = 5 ∧ (zs_I S 8009 m).toInt = lx_sr t.2.2.1 := W.2.2.2.2.2.1
theorem mw_w.fr {S : zs_T} {m : Nat} {A : Nat → Nat} {b : Nat → Int} {n : Nat} {t : Nat × Int × Int × Nat} (W : mw_w S m A b n t) : (zs_I S 8007 m).toInt = t.1 := W.2.2.2.2.2.2.1
theorem mw_w.pos {S : zs_T} {m : Nat} {A : Nat → Nat} {b : Nat → Int} {n : Nat} {t : Nat × Int × Int × Nat} (W : mw_w S m A b n t) : (zs_I S 8005 m).toInt = t.2.2.2 := W.2.2.2.2.2.2.2
theorem mw_w.mk {S : zs_T} {m : Nat} {A : Nat → Nat} {b : Nat → Int} {n : Nat} {t : Nat × Int × Int × Nat} (h0 : zs_I S 8010 m = 0) (h1 : t.2.1 = 4 → (zs_I S 8006 m).toInt = 0) (h2 : t.2.1 = 0 → (zs_I S 8006 m).toInt = (if t.2.2.1 < 36 then 2 else 1) ∧ (zs_I S 8009 m).toInt = t.2.2.1 + 1) (h3 : t.2.1 = 1 → (zs_I S 8006 m).toInt = 3 ∧ (zs_I S 8009 m).toInt = t.2.2.1) (h4 : t.2.1 = 2 → (zs_I S 8006 m).toInt = 4 ∧ zs_I S 8009 m = zs_I S 8022 m ∧ (zs_I S 8023 m).toInt = t.2.2.1 ∧ ∀ j, j < (lx_txb b (n + 1) (t.1 + 1)).length → (zs_i S (A 8021) ((zs_I S 8022 m).toInt.toNat + j) &&& 255).toInt = (lx_txb b (n + 1) (t.1 + 1)).getD j 0) (h5 : t.2.1 = 3 → (zs_I S 8006 m).toInt = 5 ∧ (zs_I S 8009 m).toInt = lx_sr t.2.2.1) (h6 : (zs_I S 8007 m).toInt = t.1) (h7 : (zs_I S 8005 m).toInt = t.2.2.2) : mw_w S m A b n t := ⟨h0, h1, h2, h3, h4, h5, h6, h7⟩
/-- a new name has no meaning -/
def mw_n (S : zs_T) (S1 : zs_T) (A : Nat → Nat) (l l1 : Nat) : Prop := (∀ j, j ≠ l + 1 → zs_i S1 (A 8019) j = zs_i S (A 8019) j) ∧ (l1 = l → ∀ j, zs_i S1 (A 8019) j = zs_i S (A 8019) j) ∧ (l1 = l + 1 → zs_i S1 (A 8019) (l + 1) = 0)
theorem mw_n.old {S : zs_T} {S1 : zs_T} {A : Nat → Nat} {l l1 : Nat} (W : mw_n S S1 A l l1) : ∀ j, j ≠ l + 1 → zs_i S1 (A 8019) j = zs_i S (A 8019) j := W.1
theorem mw_n.same {S : zs_T} {S1 : zs_T} {A : Nat → Nat} {l l1 : Nat} (W : mw_n S S1 A l l1) : l1 = l → ∀ j, zs_i S1 (A 8019) j = zs_i S (A 8019) j := W.2.1
theorem mw_n.new {S : zs_T} {S1 : zs_T} {A : Nat → Nat} {l l1 : Nat} (W : mw_n S S1 A l l1) : l1 = l + 1 → zs_i S1 (A 8019) (l + 1) = 0 := W.2.2
theorem mw_n.mk {S : zs_T} {S1 : zs_T} {A : Nat → Nat} {l l1 : Nat} (h0 : ∀ j, j ≠ l + 1 → zs_i S1 (A 8019) j = zs_i S (A 8019) j) (h1 : l1 = l → ∀ j, zs_i S1 (A 8019) j = zs_i S (A 8019) j) (h2 : l1 = l + 1 → zs_i S1 (A 8019) (l + 1) = 0) : mw_n S S1 A l l1 := ⟨h0, h1, h2⟩
section MW8
variable {σ : Nat → Nat} {n0 : Nat} {bf : ab_B} {d : Nat} {Q : zs_Q} {m n : Nat} {A : Nat → Nat} {b : Nat → Int} {L : List (List Int)}
theorem mw_n.same' {S S1 : zs_T} {F : List Nat} {l : Nat} (h : mX m A S S1 F) (h1 : F.elem 8019 = false) : mw_n S S1 A l l :=
  ⟨fun j _ => h.i 8019 (by simpa using h1) j, fun _ j => h.i 8019 (by simpa using h1) j, fun g => by omega⟩
theorem nm_enter_len (L : List (List Int)) (x : List Int) : (nm_enter L x).1.length = L.length ∨ (nm_enter L x).1.length = L.length + 1 := by
  unfold nm_enter
  split
  · exact .inl rfl
  · exact .inr (by simp)
theorem r_next_98 {S S1 : zs_T} {F : List Nat} (W : mR n0 S m A) (X1 : mX m A S S1 F) {K : zs_T → Prop} (h : mX m A S (zs_sI S1 8008 m (zs_I S1 8005 m)) (8008 :: F) → K (zs_sI S1 8008 m (zs_I S1 8005 m))) : w_X9_next_98 (zx σ n0 bf) d m S1 (zs_kV K Q) := by
  refine ⟨(X1.K m).trans W.K, W.g, ?_⟩
  rintro _ rfl
  exact h (X1.sI W)
theorem r_next (hB : zt_B bf) (hd : 5 ≤ d) {S : zs_T} {k0 r0 : Nat} (W : mT n0 S m A n b) (N : mN S m A L) (hf0 : zs_I S 8010 m = 0) (hk : (zs_I S 8005 m).toInt = k0) (hkn : k0 ≤ n) (hr0 : r0 ≤ 1300) (hroom : (zs_I S 8022 m).toInt = r0) (hbd : nm_off L L.length ≤ 400 + k0 ∧ L.length ≤ 60 + k0) {K : zs_T → Prop}
    (hr : ∀ S1 k t, lx_next b (n + 1) L k0 = .ok (k, t) → mX m A S S1 mLF → mN S1 m A t.2.2.2 → mw_w S1 m A b n (k, t.1, t.2.1, t.2.2.1) → mw_n S S1 A L.length t.2.2.2.length → (∀ j, j < r0 → zs_i S1 (A 8021) j = zs_i S (A 8021) j) → K S1)
    (ht : ∀ S1 p, lx_next b (n + 1) L k0 = .error p → mX m A S S1 mLF → zs_I S1 8010 m = 1 → (zs_I S1 8011 m).toInt = p → K S1) :
    zs_C (zx σ n0 bf) d 8014 [.ref m] S (zs_kV K Q) := by
  have hs := W.small
  refine u_X9_next hB (by omega) ?_
  refine ⟨W.R.K, fun g => absurd g (by rw [hf0]; decide), fun _ => ?_⟩
  refine r_skip hB (by omega) (n + 1) W hf0 hk hkn (by omega) ?_ ?_
  rotate_left
  · intro S1 p g1 g2 g3 g4
    exact ⟨fun g9 => absurd rfl g9, fun _ => ht S1 p (by rw [lx_next, g1]) (g2.mk' rfl) g3 g4⟩
  intro v k g1 g2 g3 g4
  have X1 := (mX.refl S).sI W.R (f := 8005) (v := v)
  refine ⟨fun _ => ⟨by simpa [zs_rd] using W.R.K, W.R.g, ?_⟩, fun g9 => absurd (by decide) g9⟩
  rintro _ rfl
  have X2 := X1.sI W.R (f := 8007) (v := zs_I (zs_sI S 8005 m v) 8005 m)
  generalize hS2 : zs_sI (zs_sI S 8005 m v) 8007 m (zs_I (zs_sI S 8005 m v) 8005 m) = S2 at X2
  have hk2 : (zs_I S2 8005 m).toInt = k := by rw [← hS2]; simp [zs_rd, g4]
  have hf2 : (zs_I S2 8007 m).toInt = k := by rw [← hS2]; simp [zs_rd, g4]
  have hf02 : zs_I S2 8010 m = 0 := by rw [X2.I 8010 (by decide)]; exact hf0
  have hroom2 : (zs_I S2 8022 m).toInt = r0 := by rw [X2.I 8022 (by decide)]; exact hroom
  clear hS2
  have W2 := W.X X2 rfl
  have N2 := N.X X2 rfl
  have hend := W2.ends k
  have hx : lx_tok b (n + 1) L k = none → lx_next b (n + 1) L k0 = .error k := by intro g; rw [lx_next, g1]; simp only [g]
  have hy : ∀ t, lx_tok b (n + 1) L k = some t → lx_next b (n + 1) L k0 = .ok (k, t) := by intro t g; rw [lx_next, g1]; simp only [g]
  -- behind a fault
  have bad : ∀ (S1 : zs_T) (F : List Nat), lx_tok b (n + 1) L k = none → mX m A S2 S1 F → ((8008 :: ([8007, 8005] ++ F)).all fun f => mLF.elem f) = true → zs_I S1 8010 m = 1 → (zs_I S1 8011 m).toInt = k → w_X9_next_98 (zx σ n0 bf) (d - 1) m S1 (zs_kV K Q) := by
    intro S1 F q1 q2 q3 q4 q5
    refine r_next_98 (d := d - 1) W.R (X2.trans q2) ?_
    intro X9
    exact ht _ k (hx q1) (X9.mk' q3) (by simpa [zs_rd] using q4) (by simpa [zs_rd] using q5)
  refine r_b0 hB (by omega) W2 hk2 ?_
  intro v12 hv12
  refine ⟨fun g => ?_, fun g => ?_⟩ <;> simp only [zi_eq, zi_lit, Classical.not_not] at g
  · have hbk : b k ≠ -1 := by omega
    have hkn2 : k < n := by omega
    clear hend
    refine r_isLetter hB (by omega) ?_
    intro v2 hv2
    rw [hv12] at hv2
    refine ⟨fun g5 => ?_, fun g5 => ⟨W2.R.K, ?_⟩⟩ <;> simp only [zi_eq, zi_lit] at g5
    · have hnl : ¬ (97 ≤ b k ∧ b k ≤ 122 ∨ 65 ≤ b k ∧ b k ≤ 90) := by omega
      clear hv2
      refine r_isDigit hB (by omega) ?_
      intro v5 hv5
      rw [hv12] at hv5
      refine ⟨fun g6 => ?_, fun g6 => ⟨W2.R.K, ?_⟩⟩ <;> simp only [zi_eq, zi_lit] at g6
      · have hnd : ¬ (48 ≤ b k ∧ b k ≤ 57) := by omega
        clear hv5
        refine ⟨fun g7 => ⟨W2.R.K, ?_⟩, fun g7 => ⟨W2.R.K, ?_⟩⟩ <;> simp only [zi_eq, zi_lit2, Classical.not_not] at g7
        · have hnq : ¬ b k = 39 := by omega
          refine r_readSign hB (by omega) W2 hf02 hk2 hkn2 ?_ ?_
          · intro S1 q1 q2 q3 q4 q5
            refine r_next_98 (d := d - 1) W.R (X2.trans q2) ?_
            intro X9
            have e : lx_tok b (n + 1) L k = some (3, lx_sgn (b k) (b (k + 1)), if lx_sgn (b k) (b (k + 1)) > 255 then k + 2 else k + 1, L) := by rw [lx_tok, if_neg hbk, if_neg hnl, if_neg hnd, if_neg hnq, if_neg q1]
            have e7 : zs_I S1 8007 m = zs_I S2 8007 m := q2.I 8007 (by decide)
            have e10 : zs_I S1 8010 m = zs_I S2 8010 m := q2.I 8010 (by decide)
            refine hr _ k _ (hy _ e) (X9.mk' rfl) (N.X X9 rfl) ?_ (mw_n.same' X9 rfl) (fun j _ => X9.i 8021 (by decide) j)
            exact ⟨by simp [zs_rd, e10, hf02], fun h => by simp at h, fun h => by simp at h, fun h => by simp at h, fun h => by simp at h, fun _ => by simp [zs_rd, q3, q4], by simp [zs_rd, e7, hf2], by simpa [zs_rd] using q5⟩
          · intro S1 q1 q2 q3 q4
            exact bad S1 _ (by rw [lx_tok, if_neg hbk, if_neg hnl, if_neg hnd, if_neg hnq, if_pos q1]) q2 rfl q3 q4
        · have hq : b k = 39 := by omega
          have htk : lx_tok b (n + 1) L k = (match lx_txt b (n + 1) (k + 1) 0 with
              | some q => if 1 ≤ q.2 ∧ q.2 ≤ 80 then some (2, (q.2 : Int), q.1, L) else none
              | none => none) := by rw [lx_tok, if_neg hbk, if_neg hnl, if_neg hnd, if_pos hq]; rfl
          refine r_readText (r0 := r0) hB (by omega) hr0 (n + 1) W2 hf02 hk2 (by omega) (by omega) hroom2 ?_ ?_
          · intro S1 k1 c1 q1 q2 q3 q5 q6 q7 q8 q9 q10 q11 q12
            refine r_next_98 (d := d - 1) W.R (X2.trans q6) ?_
            intro X9
            have e : lx_tok b (n + 1) L k = some (2, (c1 : Int), k1, L) := by rw [htk, q1]; simp only; rw [if_pos ⟨q2, q3⟩]
            have e7 : zs_I S1 8007 m = zs_I S2 8007 m := q6.I 8007 (by decide)
            have e10 : zs_I S1 8010 m = zs_I S2 8010 m := q6.I 8010 (by decide)
            have e22 : zs_I S1 8022 m = zs_I S2 8022 m := q6.I 8022 (by decide)
            refine hr _ k _ (hy _ e) (X9.mk' rfl) (N.X X9 rfl) ?_ (mw_n.same' X9 rfl) ?_
            · refine ⟨by simp [zs_rd, e10, hf02], fun h => by simp at h, fun h => by simp at h, fun h => by simp at h, fun _ => ⟨by simp [zs_rd, q7], ?_, by simp [zs_rd, q9], ?_⟩, fun h => by simp at h, by simp [zs_rd, e7, hf2], by simpa [zs_rd] using q10⟩
              · rw [zi_eq]
                simp [zs_rd, q8, e22, hroom2]
              · intro j hj
                rw [← q12 j hj]
                simp [zs_rd, e22, hroom2]
            · intro j hj
              rw [show zs_i (zs_sI S1 8008 m (zs_I S1 8005 m)) (A 8021) j = zs_i S1 (A 8021) j from by simp [zs_rd], q11 j hj]
              exact X2.i 8021 (by decide) j
          · intro S1 q1 q2 q3 q4 q5
            refine bad S1 _ ?_ q2 rfl q3 q4
            rw [htk]
            cases hq9 : lx_txt b (n + 1) (k + 1) 0 with
            | none => rfl
            | some q =>
              have := q1 q.1 q.2 hq9
              simp only
              rw [if_neg (by omega)]
      · have hdg : 48 ≤ b k ∧ b k ≤ 57 := by omega
        clear hv5
        have htk : lx_tok b (n + 1) L k = (match lx_num b (n + 1) k with
            | some q => some (1, q.2, q.1, L)
            | none => none) := by rw [lx_tok, if_neg hbk, if_neg hnl, if_pos hdg]; rfl
        refine r_readNumber (f := n + 1) hB (by omega) W2 hf02 hk2 g3 (by omega) ?_ ?_
        · intro S1 k1 v1 q1 q2 q3 q4 q5
          refine r_next_98 (d := d - 1) W.R (X2.trans q2) ?_
          intro X9
          have e : lx_tok b (n + 1) L k = some (1, v1, k1, L) := by rw [htk, q1]
          have e7 : zs_I S1 8007 m = zs_I S2 8007 m := q2.I 8007 (by decide)
          have e10 : zs_I S1 8010 m = zs_I S2 8010 m := q2.I 8010 (by decide)
          refine hr _ k _ (hy _ e) (X9.mk' rfl) (N.X X9 rfl) ?_ (mw_n.same' X9 rfl) (fun j _ => X9.i 8021 (by decide) j)
          exact ⟨by simp [zs_rd, e10, hf02], fun h => by simp at h, fun h => by simp at h, fun _ => by simp [zs_rd, q3, q4], fun h => by simp at h, fun h => by simp at h, by simp [zs_rd, e7, hf2], by simpa [zs_rd] using q5⟩
        · intro S1 q1 q2 q3 q4
          exact bad S1 _ (by rw [htk, q1]) q2 rfl q3 q4
    · have hlt : 97 ≤ b k ∧ b k ≤ 122 ∨ 65 ≤ b k ∧ b k ≤ 90 := by omega
      clear hv2
      refine u_X9_readName hB (by omega) ?_
      have hsp := lx_ne_spec b (n + 1) k
      have hle : lx_ne b (n + 1) k ≤ n := by
        by_cases hh : lx_ne b (n + 1) k ≤ n
        · exact hh
        · have h9 := hsp.2 n (by omega) (by omega)
          have h8 := (W2.ends n).mpr (Nat.le_refl _)
          rw [h8] at h9
          omega
      refine r_readName_2 hB (by omega) W2 N2 hf02 hk2 g3 (by omega) (n + 1) hsp.2 hle ?_ ?_ (n + 1) 0 rfl rfl (by omega) (by omega)
      · intro S1 x q1 q2 q3 q4 q5 q6 q7 q8 q9 q10
        refine r_next_98 (d := d - 1) W.R (X2.trans q3) ?_
        intro X9
        have e : lx_tok b (n + 1) L k = some (0, ((nm_enter L x).2 : Int), lx_ne b (n + 1) k, (nm_enter L x).1) := by rw [lx_tok, if_neg hbk, if_pos hlt, if_neg (by omega), q2]
        have e7 : zs_I S1 8007 m = zs_I S2 8007 m := q3.I 8007 (by decide)
        have e10 : zs_I S1 8010 m = zs_I S2 8010 m := q3.I 8010 (by decide)
        have X8 : mX m A S1 (zs_sI S1 8008 m (zs_I S1 8005 m)) [8008] := (mX.refl S1).sI (W2.R.X q3)
        have m2 : ∀ j, zs_i S2 (A 8019) j = zs_i S (A 8019) j := fun j => X2.i 8019 (by decide) j
        have m8 : ∀ j, zs_i (zs_sI S1 8008 m (zs_I S1 8005 m)) (A 8019) j = zs_i S1 (A 8019) j := fun j => by simp [zs_rd]
        refine hr _ k _ (hy _ e) (X9.mk' rfl) (q4.X X8 rfl) ?_ ?_ (fun j _ => X9.i 8021 (by decide) j)
        · refine ⟨by simp [zs_rd, e10, hf02], fun h => by simp at h, fun _ => ⟨?_, by simp [zs_rd, q5]⟩, fun h => by simp at h, fun h => by simp at h, fun h => by simp at h, by simp [zs_rd, e7, hf2], by simpa [zs_rd] using q7⟩
          rw [show zs_I (zs_sI S1 8008 m (zs_I S1 8005 m)) 8006 m = zs_I S1 8006 m from by simp [zs_rd], q6]
          simp only
          split <;> split <;> omega
        · exact ⟨fun j hj => by rw [m8, q8 j hj, m2], fun h j => by rw [m8, q10 h, m2], fun h => by rw [m8, q9 h]⟩
      · intro S1 q1 q2 q3 q4
        exact bad S1 _ (by rw [lx_tok, if_neg hbk, if_pos hlt, if_pos q1]) q2 rfl q3 q4
  · have hbk : b k = -1 := by omega
    have hkn2 : k = n := by omega
    refine ⟨W2.R.K, W2.R.g, ?_⟩
    rintro _ rfl _ rfl
    have X3 := (X2.sI W.R (f := 8006) (v := 0)).sI W.R (f := 8007) (v := zs_I (zs_sI S2 8006 m 0) 8004 m)
    have e4 : (zs_I S2 8004 m).toInt = n := W2.e
    refine r_next_98 (d := d - 1) W.R X3 ?_
    intro X9
    have e : lx_tok b (n + 1) L k = some (4, 0, k, L) := by rw [lx_tok, if_pos hbk]
    refine hr _ k _ (hy _ e) (X9.mk' rfl) (N.X X9 rfl) ?_ (mw_n.same' X9 rfl) (fun j _ => X9.i 8021 (by decide) j)
    exact ⟨by simp [zs_rd, hf02], fun _ => by simp [zs_rd], fun h => by simp at h, fun h => by simp at h, fun h => by simp at h, fun h => by simp at h, by simp [zs_rd, e4, hkn2], by simp [zs_rd, hk2]⟩
end MW8
