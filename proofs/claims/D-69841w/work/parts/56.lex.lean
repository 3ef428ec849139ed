/-! THE WORD AT HAND, both sides: the component's reader and words (LC), the reference's (LR) -/
def lF : List Nat := [5002, 5003, 5004, 5005, 5006, 5007, 5012]
/-- the component: reader rd, words w over the text b (n bytes), names L, the word t at hand -/
def LC (n0 : Nat) (S : zs_T) (rd w tp le st nx ch n : Nat) (b : Nat → Int) (L : List (List Int)) (t : Nat × Int × Int × Nat) : Prop := (zs_K S rd = some (.inl 4)) ∧ (n0 ≤ rd) ∧ (zs_R S 4000 rd = some w) ∧ (cw_t n0 S w tp n b) ∧ (cw_n n0 S w le st nx ch L) ∧ (cw_w S w t) ∧ (rd < zs_N S ∧ w < zs_N S ∧ tp < zs_N S ∧ le < zs_N S ∧ st < zs_N S ∧ nx < zs_N S ∧ ch < zs_N S) ∧ (tp ≠ w ∧ tp ≠ le ∧ tp ≠ st ∧ tp ≠ nx ∧ tp ≠ ch) ∧ (t.1 ≤ t.2.2.2 ∧ t.2.2.2 ≤ n) ∧ (n ≤ 1300) ∧ (nm_off L L.length ≤ 400 + t.2.2.2 ∧ L.length ≤ 60 + t.2.2.2) ∧ (0 ≤ t.2.1 ∧ t.2.1 ≤ 4) ∧ (t.2.1 = 0 → 0 ≤ t.2.2.1 ∧ t.2.2.1 < L.length) ∧ (zW S)
theorem LC.rK {n0 : Nat} {S : zs_T} {rd w tp le st nx ch n : Nat} {b : Nat → Int} {L : List (List Int)} {t : Nat × Int × Int × Nat} (W : LC n0 S rd w tp le st nx ch n b L t) : zs_K S rd = some (.inl 4) := W.1
theorem LC.rg {n0 : Nat} {S : zs_T} {rd w tp le st nx ch n : Nat} {b : Nat → Int} {L : List (List Int)} {t : Nat × Int × Int × Nat} (W : LC n0 S rd w tp le st nx ch n b L t) : n0 ≤ rd := W.2.1
theorem LC.rw' {n0 : Nat} {S : zs_T} {rd w tp le st nx ch n : Nat} {b : Nat → Int} {L : List (List Int)} {t : Nat × Int × Int × Nat} (W : LC n0 S rd w tp le st nx ch n b L t) : zs_R S 4000 rd = some w := W.2.2.1
theorem LC.tt {n0 : Nat} {S : zs_T} {rd w tp le st nx ch n : Nat} {b : Nat → Int} {L : List (List Int)} {t : Nat × Int × Int × Nat} (W : LC n0 S rd w tp le st nx ch n b L t) : cw_t n0 S w tp n b := W.2.2.2.1
theorem LC.nn {n0 : Nat} {S : zs_T} {rd w tp le st nx ch n : Nat} {b : Nat → Int} {L : List (List Int)} {t : Nat × Int × Int × Nat} (W : LC n0 S rd w tp le st nx ch n b L t) : cw_n n0 S w le st nx ch L := W.2.2.2.2.1
theorem LC.ww {n0 : Nat} {S : zs_T} {rd w tp le st nx ch n : Nat} {b : Nat → Int} {L : List (List Int)} {t : Nat × Int × Int × Nat} (W : LC n0 S rd w tp le st nx ch n b L t) : cw_w S w t := W.2.2.2.2.2.1
theorem LC.lt {n0 : Nat} {S : zs_T} {rd w tp le st nx ch n : Nat} {b : Nat → Int} {L : List (List Int)} {t : Nat × Int × Int × Nat} (W : LC n0 S rd w tp le st nx ch n b L t) : rd < zs_N S ∧ w < zs_N S ∧ tp < zs_N S ∧ le < zs_N S ∧ st < zs_N S ∧ nx < zs_N S ∧ ch < zs_N S := W.2.2.2.2.2.2.1
theorem LC.dis {n0 : Nat} {S : zs_T} {rd w tp le st nx ch n : Nat} {b : Nat → Int} {L : List (List Int)} {t : Nat × Int × Int × Nat} (W : LC n0 S rd w tp le st nx ch n b L t) : tp ≠ w ∧ tp ≠ le ∧ tp ≠ st ∧ tp ≠ nx ∧ tp ≠ ch := W.2.2.2.2.2.2.2.1
theorem LC.pos {n0 : Nat} {S : zs_T} {rd w tp le st nx ch n : Nat} {b : Nat → Int} {L : List (List Int)} {t : Nat × Int × Int × Nat} (W : LC n0 S rd w tp le st nx ch n b L t) : t.1 ≤ t.2.2.2 ∧ t.2.2.2 ≤ n := W.2.2.2.2.2.2.2.2.1
theorem LC.sm {n0 : Nat} {S : zs_T} {rd w tp le st nx ch n : Nat} {b : Nat → Int} {L : List (List Int)} {t : Nat × Int × Int × Nat} (W : LC n0 S rd w tp le st nx ch n b L t) : n ≤ 1300 := W.2.2.2.2.2.2.2.2.2.1
theorem LC.bd {n0 : Nat} {S : zs_T} {rd w tp le st nx ch n : Nat} {b : Nat → Int} {L : List (List Int)} {t : Nat × Int × Int × Nat} (W : LC n0 S rd w tp le st nx ch n b L t) : nm_off L L.length ≤ 400 + t.2.2.2 ∧ L.length ≤ 60 + t.2.2.2 := W.2.2.2.2.2.2.2.2.2.2.1
theorem LC.knd {n0 : Nat} {S : zs_T} {rd w tp le st nx ch n : Nat} {b : Nat → Int} {L : List (List Int)} {t : Nat × Int × Int × Nat} (W : LC n0 S rd w tp le st nx ch n b L t) : 0 ≤ t.2.1 ∧ t.2.1 ≤ 4 := W.2.2.2.2.2.2.2.2.2.2.2.1
theorem LC.nam {n0 : Nat} {S : zs_T} {rd w tp le st nx ch n : Nat} {b : Nat → Int} {L : List (List Int)} {t : Nat × Int × Int × Nat} (W : LC n0 S rd w tp le st nx ch n b L t) : t.2.1 = 0 → 0 ≤ t.2.2.1 ∧ t.2.2.1 < L.length := W.2.2.2.2.2.2.2.2.2.2.2.2.1
theorem LC.zw {n0 : Nat} {S : zs_T} {rd w tp le st nx ch n : Nat} {b : Nat → Int} {L : List (List Int)} {t : Nat × Int × Int × Nat} (W : LC n0 S rd w tp le st nx ch n b L t) : zW S := W.2.2.2.2.2.2.2.2.2.2.2.2.2
theorem LC.mk {n0 : Nat} {S : zs_T} {rd w tp le st nx ch n : Nat} {b : Nat → Int} {L : List (List Int)} {t : Nat × Int × Int × Nat} (h0 : zs_K S rd = some (.inl 4)) (h1 : n0 ≤ rd) (h2 : zs_R S 4000 rd = some w) (h3 : cw_t n0 S w tp n b) (h4 : cw_n n0 S w le st nx ch L) (h5 : cw_w S w t) (h6 : rd < zs_N S ∧ w < zs_N S ∧ tp < zs_N S ∧ le < zs_N S ∧ st < zs_N S ∧ nx < zs_N S ∧ ch < zs_N S) (h7 : tp ≠ w ∧ tp ≠ le ∧ tp ≠ st ∧ tp ≠ nx ∧ tp ≠ ch) (h8 : t.1 ≤ t.2.2.2 ∧ t.2.2.2 ≤ n) (h9 : n ≤ 1300) (h10 : nm_off L L.length ≤ 400 + t.2.2.2 ∧ L.length ≤ 60 + t.2.2.2) (h11 : 0 ≤ t.2.1 ∧ t.2.1 ≤ 4) (h12 : t.2.1 = 0 → 0 ≤ t.2.2.1 ∧ t.2.2.1 < L.length) (h13 : zW S) : LC n0 S rd w tp le st nx ch n b L t := ⟨h0, h1, h2, h3, h4, h5, h6, h7, h8, h9, h10, h11, h12, h13⟩
/-- the reference -/
def LR (n0 : Nat) (T : zs_T) (m : Nat) (A : Nat → Nat) (n : Nat) (b : Nat → Int) (L : List (List Int)) (t : Nat × Int × Int × Nat) (r0 : Nat) : Prop := (mT n0 T m A n b) ∧ (mN T m A L) ∧ (mw_w T m A b n t) ∧ ((zs_I T 8022 m).toInt = r0) ∧ (r0 ≤ t.2.2.2) ∧ (t.1 ≤ t.2.2.2 ∧ t.2.2.2 ≤ n) ∧ (nm_off L L.length ≤ 400 + t.2.2.2 ∧ L.length ≤ 60 + t.2.2.2) ∧ (0 ≤ t.2.1 ∧ t.2.1 ≤ 4)
theorem LR.tt {n0 : Nat} {T : zs_T} {m : Nat} {A : Nat → Nat} {n : Nat} {b : Nat → Int} {L : List (List Int)} {t : Nat × Int × Int × Nat} {r0 : Nat} (W : LR n0 T m A n b L t r0) : mT n0 T m A n b := W.1
theorem LR.nn {n0 : Nat} {T : zs_T} {m : Nat} {A : Nat → Nat} {n : Nat} {b : Nat → Int} {L : List (List Int)} {t : Nat × Int × Int × Nat} {r0 : Nat} (W : LR n0 T m A n b L t r0) : mN T m A L := W.2.1
theorem LR.ww {n0 : Nat} {T : zs_T} {m : Nat} {A : Nat → Nat} {n : Nat} {b : Nat → Int} {L : List (List Int)} {t : Nat × Int × Int × Nat} {r0 : Nat} (W : LR n0 T m A n b L t r0) : mw_w T m A b n t := W.2.2.1
theorem LR.room {n0 : Nat} {T : zs_T} {m : Nat} {A : Nat → Nat} {n : Nat} {b : Nat → Int} {L : List (List Int)} {t : Nat × Int × Int × Nat} {r0 : Nat} (W : LR n0 T m A n b L t r0) : (zs_I T 8022 m).toInt = r0 := W.2.2.2.1
theorem LR.rb {n0 : Nat} {T : zs_T} {m : Nat} {A : Nat → Nat} {n : Nat} {b : Nat → Int} {L : List (List Int)} {t : Nat × Int × Int × Nat} {r0 : Nat} (W : LR n0 T m A n b L t r0) : r0 ≤ t.2.2.2 := W.2.2.2.2.1
theorem LR.pos {n0 : Nat} {T : zs_T} {m : Nat} {A : Nat → Nat} {n : Nat} {b : Nat → Int} {L : List (List Int)} {t : Nat × Int × Int × Nat} {r0 : Nat} (W : LR n0 T m A n b L t r0) : t.1 ≤ t.2.2.2 ∧ t.2.2.2 ≤ n := W.2.2.2.2.2.1
theorem LR.bd {n0 : Nat} {T : zs_T} {m : Nat} {A : Nat → Nat} {n : Nat} {b : Nat → Int} {L : List (List Int)} {t : Nat × Int × Int × Nat} {r0 : Nat} (W : LR n0 T m A n b L t r0) : nm_off L L.length ≤ 400 + t.2.2.2 ∧ L.length ≤ 60 + t.2.2.2 := W.2.2.2.2.2.2.1
theorem LR.knd {n0 : Nat} {T : zs_T} {m : Nat} {A : Nat → Nat} {n : Nat} {b : Nat → Int} {L : List (List Int)} {t : Nat × Int × Int × Nat} {r0 : Nat} (W : LR n0 T m A n b L t r0) : 0 ≤ t.2.1 ∧ t.2.1 ≤ 4 := W.2.2.2.2.2.2.2
theorem LR.mk {n0 : Nat} {T : zs_T} {m : Nat} {A : Nat → Nat} {n : Nat} {b : Nat → Int} {L : List (List Int)} {t : Nat × Int × Int × Nat} {r0 : Nat} (h0 : mT n0 T m A n b) (h1 : mN T m A L) (h2 : mw_w T m A b n t) (h3 : (zs_I T 8022 m).toInt = r0) (h4 : r0 ≤ t.2.2.2) (h5 : t.1 ≤ t.2.2.2 ∧ t.2.2.2 ≤ n) (h6 : nm_off L L.length ≤ 400 + t.2.2.2 ∧ L.length ≤ 60 + t.2.2.2) (h7 : 0 ≤ t.2.1 ∧ t.2.1 ≤ 4) : LR n0 T m A n b L t r0 := ⟨h0, h1, h2, h3, h4, h5, h6, h7⟩
/-- a Fault was thrown, and what is as it was -/
def cT (P : Nat → Prop) (S : zs_T) (c p : Int) (a : Nat) (S1 : zs_T) (F : List Nat) (D : List Nat) (E : List Nat) : Prop := (zs_K S1 a = some (.inl 9)) ∧ (a < zs_N S1) ∧ ((zs_I S1 9006 a).toInt = c) ∧ ((zs_I S1 9007 a).toInt = p) ∧ (cX P S S1 F D E) ∧ (zs_N S1 ≤ zs_N S + 3) ∧ (zs_M S1 ≤ zs_M S + 4008)
theorem cT.K {P : Nat → Prop} {S : zs_T} {c p : Int} {a : Nat} {S1 : zs_T} {F : List Nat} {D : List Nat} {E : List Nat} (W : cT P S c p a S1 F D E) : zs_K S1 a = some (.inl 9) := W.1
theorem cT.lt {P : Nat → Prop} {S : zs_T} {c p : Int} {a : Nat} {S1 : zs_T} {F : List Nat} {D : List Nat} {E : List Nat} (W : cT P S c p a S1 F D E) : a < zs_N S1 := W.2.1
theorem cT.code {P : Nat → Prop} {S : zs_T} {c p : Int} {a : Nat} {S1 : zs_T} {F : List Nat} {D : List Nat} {E : List Nat} (W : cT P S c p a S1 F D E) : (zs_I S1 9006 a).toInt = c := W.2.2.1
theorem cT.place {P : Nat → Prop} {S : zs_T} {c p : Int} {a : Nat} {S1 : zs_T} {F : List Nat} {D : List Nat} {E : List Nat} (W : cT P S c p a S1 F D E) : (zs_I S1 9007 a).toInt = p := W.2.2.2.1
theorem cT.X {P : Nat → Prop} {S : zs_T} {c p : Int} {a : Nat} {S1 : zs_T} {F : List Nat} {D : List Nat} {E : List Nat} (W : cT P S c p a S1 F D E) : cX P S S1 F D E := W.2.2.2.2.1
theorem cT.N {P : Nat → Prop} {S : zs_T} {c p : Int} {a : Nat} {S1 : zs_T} {F : List Nat} {D : List Nat} {E : List Nat} (W : cT P S c p a S1 F D E) : zs_N S1 ≤ zs_N S + 3 := W.2.2.2.2.2.1
theorem cT.M {P : Nat → Prop} {S : zs_T} {c p : Int} {a : Nat} {S1 : zs_T} {F : List Nat} {D : List Nat} {E : List Nat} (W : cT P S c p a S1 F D E) : zs_M S1 ≤ zs_M S + 4008 := W.2.2.2.2.2.2
theorem cT.mk {P : Nat → Prop} {S : zs_T} {c p : Int} {a : Nat} {S1 : zs_T} {F : List Nat} {D : List Nat} {E : List Nat} (h0 : zs_K S1 a = some (.inl 9)) (h1 : a < zs_N S1) (h2 : (zs_I S1 9006 a).toInt = c) (h3 : (zs_I S1 9007 a).toInt = p) (h4 : cX P S S1 F D E) (h5 : zs_N S1 ≤ zs_N S + 3) (h6 : zs_M S1 ≤ zs_M S + 4008) : cT P S c p a S1 F D E := ⟨h0, h1, h2, h3, h4, h5, h6⟩
theorem lx_tok_spec {b : Nat → Int} {F : Nat} {L : List (List Int)} {k : Nat} {t : Int × Int × Nat × List (List Int)} (h : lx_tok b F L k = some t) : 0 ≤ t.1 ∧ t.1 ≤ 4 ∧ (t.1 = 0 → 0 ≤ t.2.1 ∧ t.2.1 < t.2.2.2.length) := by
  unfold lx_tok at h
  split at h
  · cases h; exact ⟨by simp, by simp, fun g => by simp at g⟩
  · split at h
    · split at h
      · cases h
      · cases h
        refine ⟨by simp, by simp, fun _ => ⟨by simp only; omega, ?_⟩⟩
        simp only
        unfold nm_enter
        split
        · rename_i i hi
          have := (nm_find_at hi).1
          simp only; omega
        · simp only [List.length_append, List.length_singleton]; omega
    · split at h
      · split at h
        · cases h; exact ⟨by simp, by simp, fun g => by simp at g⟩
        · cases h
      · split at h
        · split at h
          · split at h
            · cases h; exact ⟨by simp, by simp, fun g => by simp at g⟩
            · cases h
          · cases h
        · split at h
          · cases h
          · cases h; exact ⟨by simp, by simp, fun g => by simp at g⟩
theorem lx_next_spec {b : Nat → Int} {F : Nat} {L : List (List Int)} {k0 k : Nat} {t : Int × Int × Nat × List (List Int)} (h : lx_next b F L k0 = .ok (k, t)) : 0 ≤ t.1 ∧ t.1 ≤ 4 ∧ (t.1 = 0 → 0 ≤ t.2.1 ∧ t.2.1 < t.2.2.2.length) := by
  unfold lx_next at h
  split at h
  · cases h
  · split at h
    · cases h
    · rename_i h2
      cases h
      exact lx_tok_spec h2
section LX
variable {σ : Nat → Nat} {n0 : Nat} {bf : ab_B} {d : Nat} {S S1 T : zs_T} {Q : zs_Q} {P : Nat → Prop} {rd w tp le st nx ch n m r0 : Nat} {A : Nat → Nat} {b : Nat → Int} {L : List (List Int)} {t : Nat × Int × Int × Nat} {F D E : List Nat}
theorem LC.X (W : LC n0 S rd w tp le st nx ch n b L t) (h : cX P S S1 F D E) (hF : (F.all fun f => decide (f ≠ 4000 ∧ (f < 5000 ∨ 5012 < f))) = true) (hD : tp ∉ D ∧ le ∉ D ∧ st ∉ D ∧ nx ∉ D ∧ ch ∉ D) : LC n0 S1 rd w tp le st nx ch n b L t := by
  have hF2 : ∀ f ∈ F, f ≠ 4000 ∧ (f < 5000 ∨ 5012 < f) := by
    intro f hf
    simpa using List.all_eq_true.mp hF f hf
  have nf : ∀ f, f = 4000 ∨ (5000 ≤ f ∧ f ≤ 5012) → f ∉ F := fun f hf q => by have := hF2 f q; omega
  obtain ⟨l1, l2, l3, l4, l5, l6, l7⟩ := W.lt
  obtain ⟨d1, d2, d3, d4, d5⟩ := hD
  have tt := W.tt
  have nn := W.nn
  have ww := W.ww
  obtain ⟨N, hN⟩ := tt.T
  refine ⟨(h.K _ l1).trans W.rK, W.rg, (h.R _ _ _ (nf 4000 (by omega)) l1 W.rK).trans W.rw', ?_, ?_, ?_, ?_, W.dis, W.pos, W.sm, W.bd, W.knd, W.nam, h.W W.zw⟩
  · refine ⟨(h.K _ l2).trans tt.K, tt.g, (h.R _ _ _ (nf 5000 (by omega)) l2 tt.K).trans tt.t, ⟨N, (h.K _ l3).trans hN.1, hN.2⟩, by rw [h.I _ _ _ (nf 5001 (by omega)) l2 tt.K]; exact tt.e, ?_, tt.small, Nat.le_trans tt.N h.N⟩
    rw [tt.b]
    congr 1
    funext j
    exact (h.i tp _ _ l3 hN.1 d1 j).symm
  · refine ⟨(h.K _ l2).trans nn.K, nn.g, (h.R _ _ _ (nf 5008 (by omega)) l2 tt.K).trans nn.Rl, (h.R _ _ _ (nf 5009 (by omega)) l2 tt.K).trans nn.Rs, (h.R _ _ _ (nf 5010 (by omega)) l2 tt.K).trans nn.Rn, (h.R _ _ _ (nf 5011 (by omega)) l2 tt.K).trans nn.Rc, (h.K _ l4).trans nn.Kl, (h.K _ l5).trans nn.Ks, (h.K _ l6).trans nn.Kn, (h.K _ l7).trans nn.Kc, nn.gl, nn.ne, by rw [h.I _ _ _ (nf 5012 (by omega)) l2 tt.K]; exact nn.nn, ?_, ?_, ?_, ?_, nn.okn, nn.bd⟩
    · intro i hi; rw [h.i st _ _ l5 nn.Ks d3]; exact nn.off i hi
    · intro i j hi hj; rw [h.i le _ _ l4 nn.Kl d2]; exact nn.ltr i j hi hj
    · intro g hg; rw [h.i ch _ _ l7 nn.Kc d5]; exact nn.chn g hg
    · intro i hi; rw [h.i nx _ _ l6 nn.Kn d4]; exact nn.nxt i hi
  · exact ⟨by rw [h.I _ _ _ (nf 5003 (by omega)) l2 tt.K]; exact ww.kind, fun g => by rw [h.I _ _ _ (nf 5004 (by omega)) l2 tt.K]; exact ww.val g, fun g => by rw [h.J _ _ _ (nf 5007 (by omega)) l2 tt.K]; exact ww.num g, by rw [h.I _ _ _ (nf 5005 (by omega)) l2 tt.K]; exact ww.fr, by rw [h.I _ _ _ (nf 5006 (by omega)) l2 tt.K]; exact ww.to, by rw [h.I _ _ _ (nf 5002 (by omega)) l2 tt.K]; exact ww.pos⟩
  · have := h.N
    omega
/-- a frame of words is one of the component -/
theorem cw_F.cX (h : cw_F S S1 w le st nx ch) (W : cw_s n0 S w le st nx ch) (zw : zW S) (hP : ¬ P w ∧ ¬ P le ∧ ¬ P st ∧ ¬ P nx ∧ ¬ P ch) : cX P S S1 lF [w, le, st, nx, ch] [] := by
  have zf : ∀ a, a ∉ [w, le, st, nx, ch] → zf_at S S1 a := by
    intro a ha
    simp only [List.mem_cons, List.not_mem_nil, or_false, not_or] at ha
    exact h.at' a ha.1 ha.2.1 ha.2.2.1 ha.2.2.2.1 ha.2.2.2.2
  have obj : ∀ a c, zs_K S a = some (.inl c) → a ≠ w → zf_at S S1 a := by
    intro a c hc hw
    refine h.at' a hw ?_ ?_ ?_ ?_ <;> rintro rfl
    · rw [W.Kl] at hc; cases hc
    · rw [W.Ks] at hc; cases hc
    · rw [W.Kn] at hc; cases hc
    · rw [W.Kc] at hc; cases hc
  have row : ∀ a n, zs_K S a = some (.inr (6, n)) → zf_at S S1 a := by
    intro a n hc
    refine h.at' a ?_ ?_ ?_ ?_ ?_ <;> rintro rfl
    · rw [W.K] at hc; cases hc
    · rw [W.Kl] at hc; cases hc
    · rw [W.Ks] at hc; cases hc
    · rw [W.Kn] at hc; cases hc
    · rw [W.Kc] at hc; cases hc
  refine ⟨?_, ?_, ?_, fun a _ => h.K a, fun a k q _ hc hd j => (zf a hd).2.2.2.2.1 j, fun a k q _ hc hd j => (zf a hd).2.2.2.2.2.1 j, ?_, ?_, by rw [h.N]; exact Nat.le_refl _, by rw [h.M]; exact Nat.le_refl _, fun w a ha => by rw [h.N] at ha; rw [h.K]; exact w a ha⟩
  · intro f a c hf _ hc
    by_cases e : a = w
    · subst e
      simp only [lF, List.mem_cons, List.not_mem_nil, or_false, not_or] at hf
      exact h.I f (by omega) (by omega)
    · exact (obj a c hc e).2.1 f
  · intro f a c hf _ hc
    by_cases e : a = w
    · subst e
      simp only [lF, List.mem_cons, List.not_mem_nil, or_false, not_or] at hf
      exact h.J f (by omega)
    · exact (obj a c hc e).2.2.1 f
  · intro f a c hf _ hc
    by_cases e : a = w
    · subst e; exact h.R f
    · exact (obj a c hc e).2.2.2.1 f
  · intro a Ls _ _ hl
    have hk := hl.1
    have e : a ≠ w := by rintro rfl; rw [W.K] at hk; cases hk
    have o := obj a 16 hk e
    exact hl.keep (o.2.1 _) (o.2.2.2.1 _) (fun c _ => h.K c) (fun c n hc j => (row c n hc).2.2.2.2.2.2 j)
  · intro a ha
    refine h.at' a ?_ ?_ ?_ ?_ ?_ <;> rintro rfl
    · exact hP.1 ha
    · exact hP.2.1 ha
    · exact hP.2.2.1 ha
    · exact hP.2.2.2.1 ha
    · exact hP.2.2.2.2 ha
/-- a fault's frame -/
theorem zft.cX {c p : Int} {a : Nat} (h : zft n0 S c p a S1) (zw : zW S) (hP : ∀ a, P a → a < zs_N S) : cT P S c p a S1 [] [] [] := by
  obtain ⟨h1, h2, h3, h4, h5, h6, h7, h8, h9⟩ := h
  have inN : ∀ b e, zs_K S b = some e → b < zs_N S := by
    intro b e hb
    by_cases hh : b < zs_N S
    · exact hh
    · rw [zw b (by omega)] at hb; cases hb
  refine ⟨h1, h3, h4, h5, ⟨fun f b c _ hb _ => (h6 b hb).2.1 f, fun f b c _ hb _ => (h6 b hb).2.2.1 f, fun f b c _ hb _ => (h6 b hb).2.2.2.1 f, fun b hb => (h6 b hb).1, fun b k q hb _ _ j => (h6 b hb).2.2.2.2.1 j, fun b k q hb _ _ j => (h6 b hb).2.2.2.2.2.1 j, ?_, fun b hb => h6 b (hP b hb), by omega, h8.1, h9⟩, h7, h8.2⟩
  · intro b L hb _ hl
    refine hl.keep ((h6 b hb).2.1 _) ((h6 b hb).2.2.2.1 _) ?_ ?_
    · rintro c (rfl | ⟨n, hc⟩)
      · exact (h6 _ hb).1
      · exact (h6 c (inN c _ hc)).1
    · intro c n hc j
      exact (h6 c (inN c _ hc)).2.2.2.2.2.2 j
end LX
