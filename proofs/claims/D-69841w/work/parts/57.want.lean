/-! THE NEXT WORD, WANTED WORDS, both sides -/
section WA
variable {σ : Nat → Nat} {n0 : Nat} {bf : ab_B} {d : Nat} {S S1 T : zs_T} {Q : zs_Q} {P : Nat → Prop} {rd w tp le st nx ch n m r0 : Nat} {A : Nat → Nat} {b : Nat → Int} {L : List (List Int)} {t : Nat × Int × Int × Nat} {F D E : List Nat}
/-- the component may touch its words -/
def pW (P : Nat → Prop) (S : zs_T) (w le st nx ch : Nat) : Prop := (¬ P w ∧ ¬ P le ∧ ¬ P st ∧ ¬ P nx ∧ ¬ P ch) ∧ ∀ a, P a → a < zs_N S
theorem pW.X (h : pW P S w le st nx ch) (k : cX P S S1 F D E) : pW P S1 w le st nx ch := ⟨h.1, fun a ha => Nat.lt_of_lt_of_le (h.2 a ha) k.N⟩
theorem c_nx (hB : zt_B bf) (Lb : zb (zx σ n0 bf) n0) (hd : 14 ≤ d) (W : LC n0 S rd w tp le st nx ch n b L t) (hP : pW P S w le st nx ch) {K : zs_T → Prop}
    (hr : ∀ S1 k q, lx_next b (n + 1) L t.2.2.2 = .ok (k, q) → LC n0 S1 rd w tp le st nx ch n b q.2.2.2 (k, q.1, q.2.1, q.2.2.1) → t.2.2.2 ≤ k → cX P S S1 lF [w, le, st, nx, ch] [] → zs_N S1 = zs_N S → zs_M S1 = zs_M S → K S1)
    (ht : ∀ p a S1, lx_next b (n + 1) L t.2.2.2 = .error p → cT P S 1 p a S1 lF [w, le, st, nx, ch] [] → Q (.threw a) S1) :
    zs_C (zx σ n0 bf) d 5004 [.ref w] S (zs_kV K Q) := by
  refine c_X6_next hB Lb hd W.dis (k0 := t.2.2.2) W.tt W.nn W.lt.2.1 W.ww.pos W.pos.2 W.sm W.bd ?_ ?_
  · intro S1 k q g1 g2 g3 g4 g5 g6 g7 g8 g9
    have X1 := g5.cX W.nn.s W.zw hP.1
    have sp := lx_next_spec g1
    have rlt := W.lt
    have rk : rd ≠ w ∧ rd ≠ le ∧ rd ≠ st ∧ rd ≠ nx ∧ rd ≠ ch := by
      have hk := W.rK
      refine ⟨?_, ?_, ?_, ?_, ?_⟩ <;> rintro rfl
      · rw [W.tt.K] at hk; cases hk
      · rw [W.nn.Kl] at hk; cases hk
      · rw [W.nn.Ks] at hk; cases hk
      · rw [W.nn.Kn] at hk; cases hk
      · rw [W.nn.Kc] at hk; cases hk
    have za := g5.at' rd rk.1 rk.2.1 rk.2.2.1 rk.2.2.2.1 rk.2.2.2.2
    refine hr S1 k q g1 ⟨(g5.K _).trans W.rK, W.rg, (za.2.2.2.1 _).trans W.rw', g6, g7, g8, by rw [g5.N]; exact rlt, W.dis, ⟨g3, g4⟩, W.sm, g9, ⟨sp.1, sp.2.1⟩, sp.2.2, X1.W W.zw⟩ g2 X1 g5.N g5.M
  · intro p a S1 S2 g1 g2 g3
    have X1 := g2.cX W.nn.s W.zw hP.1
    have h2 := g3.cX (X1.W W.zw) (fun a ha => Nat.lt_of_lt_of_le (hP.2 a ha) X1.N)
    refine ht p a S1 g1 ⟨h2.K, h2.lt, h2.code, h2.place, (X1.trans h2.X).mono (by simp) (by simp) (by simp), ?_, ?_⟩
    · have := h2.N; have := g2.N; omega
    · have := h2.M; have := g2.M; omega
theorem r_nx (hB : zt_B bf) (hd : 5 ≤ d) (W : LR n0 T m A n b L t r0) {K : zs_T → Prop}
    (hr : ∀ T1 k q, lx_next b (n + 1) L t.2.2.2 = .ok (k, q) → t.2.2.2 ≤ k → k ≤ q.2.2.1 → q.2.2.1 ≤ n → (nm_off q.2.2.2 q.2.2.2.length ≤ 400 + q.2.2.1 ∧ q.2.2.2.length ≤ 60 + q.2.2.1 → LR n0 T1 m A n b q.2.2.2 (k, q.1, q.2.1, q.2.2.1) r0) → mX m A T T1 mLF → mw_n T T1 A L.length q.2.2.2.length → (∀ j, j < r0 → zs_i T1 (A 8021) j = zs_i T (A 8021) j) → K T1)
    (ht : ∀ T1 p, lx_next b (n + 1) L t.2.2.2 = .error p → mX m A T T1 mLF → zs_I T1 8010 m = 1 → (zs_I T1 8011 m).toInt = p → K T1)
    (hle : ∀ k q, lx_next b (n + 1) L t.2.2.2 = .ok (k, q) → t.2.2.2 ≤ k ∧ k ≤ q.2.2.1 ∧ q.2.2.1 ≤ n) :
    zs_C (zx σ n0 bf) d 8014 [.ref m] T (zs_kV K Q) := by
  have hs := W.tt.small
  have hp := W.pos
  have hrb := W.rb
  refine r_next hB hd (k0 := t.2.2.2) (r0 := r0) W.tt W.nn W.ww.ok W.ww.pos W.pos.2 (by omega) W.room W.bd ?_ ht
  intro T1 k q g1 g2 g3 g4 g5 g6
  obtain ⟨l1, l2, l3⟩ := hle k q g1
  have sp := lx_next_spec g1
  exact hr T1 k q g1 l1 l2 l3 (fun hbd => ⟨W.tt.X g2 rfl, g3, g4, by rw [g2.I 8022 (by decide)]; exact W.room, by simp only; omega, ⟨l2, l3⟩, hbd, ⟨sp.1, sp.2.1⟩⟩) g2 g5 g6
/-- a new Fault at the word at hand -/
theorem c_mkFault (hB : zt_B bf) (Lb : zb (zx σ n0 bf) n0) (hd : 12 ≤ d) (W : LC n0 S rd w tp le st nx ch n b L t) (hP : pW P S w le st nx ch) {c : Int32} {K : Option Nat → zs_T → Prop} (h : ∀ a S1, cT P S c.toInt t.1 a S1 [] [] [] → K (some a) S1) : zs_C (zx σ n0 bf) d 4006 [.ref rd, .int c] S (zs_kR K Q) := by
  refine u_X5_fault hB (by omega) ?_
  rintro _ _ rfl rfl
  have l := W.lt
  have ne1 : rd ≠ zs_N S := by omega
  have ne2 : w ≠ zs_N S := by omega
  refine ⟨by simpa [zs_rdn, ne1] using W.rK, w, by simpa [zs_rdn, ne1] using W.rw', by simpa [zs_rdn, ne2] using W.tt.K, ?_⟩
  have e : zs_I (zs_nw S (.inl 9) 8) 5005 w = zs_I S 5005 w := by simp [zs_rdn, ne2]
  rw [e]
  refine c_fault hB Lb (by omega) W.tt.N ?_
  intro S1 h1
  rw [W.ww.fr] at h1
  exact h _ S1 (h1.cX W.zw hP.2)
theorem c_is (hB : zt_B bf) (hd : 1 ≤ d) (W : LC n0 S rd w tp le st nx ch n b L t) {s : Int32} {K : Int32 → zs_T → Prop} (h : ∀ v, bv v (t.2.1 = 3 ∧ t.2.2.1 = s.toInt) → K v S) : zs_C (zx σ n0 bf) d 5017 [.ref w, .int s] S (zs_kI K Q) := by
  refine u_X6_is hB hd ?_
  have e := W.ww.kind
  refine ⟨W.tt.K, fun g => h _ (bv.f ?_), fun g => ⟨fun g2 => h _ (bv.f ?_), fun g2 => h _ (bv.t ?_)⟩⟩ <;> (try simp only [zi_eq, zi_lit2, Classical.not_not] at g) <;> (try simp only [zi_eq, Classical.not_not] at g2)
  · intro q; exact g (e.trans q.1)
  · intro q; exact g2 ((W.ww.val (.inr q.1)).trans q.2)
  · exact ⟨e.symm.trans g, (W.ww.val (.inr (e.symm.trans g))).symm.trans g2⟩
theorem c_isKept (hB : zt_B bf) (hd : 1 ≤ d) (W : LC n0 S rd w tp le st nx ch n b L t) {s : Int32} {K : Int32 → zs_T → Prop} (h : ∀ v, bv v (t.2.1 = 0 ∧ t.2.2.1 = s.toInt) → K v S) : zs_C (zx σ n0 bf) d 5015 [.ref w, .int s] S (zs_kI K Q) := by
  refine u_X6_isKept hB hd ?_
  have e := W.ww.kind
  refine ⟨W.tt.K, fun g => h _ (bv.f ?_), fun g => ⟨fun g2 => h _ (bv.f ?_), fun g2 => h _ (bv.t ?_)⟩⟩ <;> (try simp only [zi_eq, zi_lit, Classical.not_not] at g) <;> (try simp only [zi_eq, Classical.not_not] at g2)
  · intro q; exact g (e.trans q.1)
  · intro q; exact g2 ((W.ww.val (.inl q.1)).trans q.2)
  · exact ⟨e.symm.trans g, (W.ww.val (.inl (e.symm.trans g))).symm.trans g2⟩
theorem c_isName (hB : zt_B bf) (hd : 1 ≤ d) (W : LC n0 S rd w tp le st nx ch n b L t) {K : Int32 → zs_T → Prop} (h : ∀ v, bv v (t.2.1 = 0 ∧ 36 ≤ t.2.2.1) → K v S) : zs_C (zx σ n0 bf) d 5016 [.ref w] S (zs_kI K Q) := by
  refine u_X6_isName hB hd ?_
  have e := W.ww.kind
  refine ⟨W.tt.K, fun g => h _ (bv.f ?_), fun g => ⟨fun g2 => h _ (bv.f ?_), fun g2 => h _ (bv.t ?_)⟩⟩ <;> (try simp only [zi_eq, zi_lit, Classical.not_not] at g) <;> (try simp only [zi_lt, zi_lit2] at g2)
  · intro q; exact g (e.trans q.1)
  · intro q
    have := W.ww.val (.inl q.1)
    omega
  · have h0 : t.2.1 = 0 := e.symm.trans g
    have := W.ww.val (.inl h0)
    exact ⟨h0, by omega⟩
/-- a sign that must stand here -/
theorem c_want (hB : zt_B bf) (Lb : zb (zx σ n0 bf) n0) (hd : 15 ≤ d) (W : LC n0 S rd w tp le st nx ch n b L t) (hP : pW P S w le st nx ch) {s : Int32} {K : zs_T → Prop}
    (hr : ∀ S1 k q, t.2.1 = 3 ∧ t.2.2.1 = s.toInt → lx_next b (n + 1) L t.2.2.2 = .ok (k, q) → LC n0 S1 rd w tp le st nx ch n b q.2.2.2 (k, q.1, q.2.1, q.2.2.1) → t.2.2.2 ≤ k → cX P S S1 lF [w, le, st, nx, ch] [] → zs_N S1 = zs_N S → zs_M S1 = zs_M S → K S1)
    (h1 : ∀ p a S1, t.2.1 = 3 ∧ t.2.2.1 = s.toInt → lx_next b (n + 1) L t.2.2.2 = .error p → cT P S 1 p a S1 lF [w, le, st, nx, ch] [] → Q (.threw a) S1)
    (h2 : ∀ a S1, ¬ (t.2.1 = 3 ∧ t.2.2.1 = s.toInt) → cT P S 2 t.1 a S1 [] [] [] → Q (.threw a) S1) :
    zs_C (zx σ n0 bf) d 4008 [.ref rd, .int s] S (zs_kV K Q) := by
  refine u_X5_want hB (by omega) ?_
  refine ⟨W.rK, w, W.rw', W.tt.K, c_is hB (by omega) W ?_⟩
  intro v hv
  refine ⟨fun g => ⟨W.rK, w, W.rw', W.tt.K, c_nx hB Lb (by omega) W hP (fun S1 k q a1 a2 a3 a4 a5 a6 => hr S1 k q (hv.y g) a1 a2 a3 a4 a5 a6) (fun p a S1 a1 a2 => h1 p a S1 (hv.y g) a1 a2)⟩, fun g => ⟨W.rK, c_mkFault hB Lb (by omega) W hP ?_⟩⟩
  intro a S1 g1
  exact ⟨a, rfl, h2 a S1 (hv.n (Classical.not_not.mp g)) g1⟩
theorem c_wantKept (hB : zt_B bf) (Lb : zb (zx σ n0 bf) n0) (hd : 15 ≤ d) (W : LC n0 S rd w tp le st nx ch n b L t) (hP : pW P S w le st nx ch) {s : Int32} {K : zs_T → Prop}
    (hr : ∀ S1 k q, t.2.1 = 0 ∧ t.2.2.1 = s.toInt → lx_next b (n + 1) L t.2.2.2 = .ok (k, q) → LC n0 S1 rd w tp le st nx ch n b q.2.2.2 (k, q.1, q.2.1, q.2.2.1) → t.2.2.2 ≤ k → cX P S S1 lF [w, le, st, nx, ch] [] → zs_N S1 = zs_N S → zs_M S1 = zs_M S → K S1)
    (h1 : ∀ p a S1, t.2.1 = 0 ∧ t.2.2.1 = s.toInt → lx_next b (n + 1) L t.2.2.2 = .error p → cT P S 1 p a S1 lF [w, le, st, nx, ch] [] → Q (.threw a) S1)
    (h2 : ∀ a S1, ¬ (t.2.1 = 0 ∧ t.2.2.1 = s.toInt) → cT P S 2 t.1 a S1 [] [] [] → Q (.threw a) S1) :
    zs_C (zx σ n0 bf) d 4005 [.ref rd, .int s] S (zs_kV K Q) := by
  refine u_X5_wantKept hB (by omega) ?_
  refine ⟨W.rK, w, W.rw', W.tt.K, c_isKept hB (by omega) W ?_⟩
  intro v hv
  refine ⟨fun g => ⟨W.rK, w, W.rw', W.tt.K, c_nx hB Lb (by omega) W hP (fun S1 k q a1 a2 a3 a4 a5 a6 => hr S1 k q (hv.y g) a1 a2 a3 a4 a5 a6) (fun p a S1 a1 a2 => h1 p a S1 (hv.y g) a1 a2)⟩, fun g => ⟨W.rK, c_mkFault hB Lb (by omega) W hP ?_⟩⟩
  intro a S1 g1
  exact ⟨a, rfl, h2 a S1 (hv.n (Classical.not_not.mp g)) g1⟩
theorem c_wantName (hB : zt_B bf) (Lb : zb (zx σ n0 bf) n0) (hd : 15 ≤ d) (W : LC n0 S rd w tp le st nx ch n b L t) (hP : pW P S w le st nx ch) {K : Int32 → zs_T → Prop}
    (hr : ∀ S1 k q (v : Int32), t.2.1 = 0 ∧ 36 ≤ t.2.2.1 → v.toInt = t.2.2.1 → lx_next b (n + 1) L t.2.2.2 = .ok (k, q) → LC n0 S1 rd w tp le st nx ch n b q.2.2.2 (k, q.1, q.2.1, q.2.2.1) → t.2.2.2 ≤ k → cX P S S1 lF [w, le, st, nx, ch] [] → zs_N S1 = zs_N S → zs_M S1 = zs_M S → K v S1)
    (h1 : ∀ p a S1, t.2.1 = 0 ∧ 36 ≤ t.2.2.1 → lx_next b (n + 1) L t.2.2.2 = .error p → cT P S 1 p a S1 lF [w, le, st, nx, ch] [] → Q (.threw a) S1)
    (h2 : ∀ a S1, ¬ (t.2.1 = 0 ∧ 36 ≤ t.2.2.1) → cT P S 2 t.1 a S1 [] [] [] → Q (.threw a) S1) :
    zs_C (zx σ n0 bf) d 4007 [.ref rd] S (zs_kI K Q) := by
  refine u_X5_wantName hB (by omega) ?_
  refine ⟨W.rK, w, W.rw', W.tt.K, c_isName hB (by omega) W ?_⟩
  intro v hv
  refine ⟨fun g => ⟨W.rK, w, W.rw', W.tt.K, c_nx hB Lb (by omega) W hP (fun S1 k q a1 a2 a3 a4 a5 a6 => hr S1 k q _ (hv.y g) (W.ww.val (.inl (hv.y g).1)) a1 a2 a3 a4 a5 a6) (fun p a S1 a1 a2 => h1 p a S1 (hv.y g) a1 a2)⟩, fun g => ⟨W.rK, c_mkFault hB Lb (by omega) W hP ?_⟩⟩
  intro a S1 g1
  exact ⟨a, rfl, h2 a S1 (hv.n (Classical.not_not.mp g)) g1⟩
/-- deeper by one -/
theorem c_deeper (hB : zt_B bf) (Lb : zb (zx σ n0 bf) n0) (hd : 13 ≤ d) (W : LC n0 S rd w tp le st nx ch n b L t) (hP : pW P S w le st nx ch) (hrd : ¬ P rd) {k : Nat} (hk : (zs_I S 4011 rd).toInt = k) (hk2 : k ≤ 40) {K : zs_T → Prop}
    (hr : ∀ S1, k < 40 → LC n0 S1 rd w tp le st nx ch n b L t → (zs_I S1 4011 rd).toInt = k + 1 → cX P S S1 [4011] [] [] → zs_N S1 = zs_N S → zs_M S1 = zs_M S → S1 = zs_sI S 4011 rd (zs_I S 4011 rd + 1) → K S1)
    (h8 : ∀ a S1, k = 40 → cT P S 8 t.1 a S1 [] [] [] → Q (.threw a) S1) :
    zs_C (zx σ n0 bf) d 4021 [.ref rd] S (zs_kV K Q) := by
  refine u_X5_deeper hB (by omega) ?_
  refine ⟨W.rK, fun g => ⟨W.rg, ?_⟩, fun g => ?_⟩ <;> simp only [zi_eq, zi_lit2, Classical.not_not] at g
  · rintro _ rfl
    have X1 : cX P S (zs_sI S 4011 rd (zs_I S 4011 rd + 1)) [4011] [] [] := (cX.refl S).sI (by omega) hrd
    refine hr _ (by omega) (W.X X1 rfl ⟨by simp, by simp, by simp, by simp, by simp⟩) ?_ X1 (by simp [zs_rd]) (by simp [zs_rd]) rfl
    simp only [zs_rd, and_self, if_true]
    rw [zi_add] <;> simp only [zi_lit] <;> omega
  · refine c_mkFault hB Lb (by omega) W hP ?_
    intro a S1 g1
    exact ⟨a, rfl, h8 a S1 (by omega) g1⟩
/-- the reference: a sign that must stand here; after a fault nothing more is done -/
theorem r_takeSign (hB : zt_B bf) (hd : 6 ≤ d) (W : LR n0 T m A n b L t r0) (hle : ∀ k q, lx_next b (n + 1) L t.2.2.2 = .ok (k, q) → t.2.2.2 ≤ k ∧ k ≤ q.2.2.1 ∧ q.2.2.1 ≤ n) {s : Int32} {K : zs_T → Prop}
    (hr : ∀ T1 k q, t.2.1 = 3 ∧ lx_sr t.2.2.1 = s.toInt → lx_next b (n + 1) L t.2.2.2 = .ok (k, q) → (nm_off q.2.2.2 q.2.2.2.length ≤ 400 + q.2.2.1 ∧ q.2.2.2.length ≤ 60 + q.2.2.1 → LR n0 T1 m A n b q.2.2.2 (k, q.1, q.2.1, q.2.2.1) r0) → mX m A T T1 mLF → mw_n T T1 A L.length q.2.2.2.length → (∀ j, j < r0 → zs_i T1 (A 8021) j = zs_i T (A 8021) j) → K T1)
    (h1 : ∀ T1 p, t.2.1 = 3 ∧ lx_sr t.2.2.1 = s.toInt → lx_next b (n + 1) L t.2.2.2 = .error p → mX m A T T1 mLF → zs_I T1 8010 m = 1 → (zs_I T1 8011 m).toInt = p → K T1)
    (h2 : ∀ T1, ¬ (t.2.1 = 3 ∧ lx_sr t.2.2.1 = s.toInt) → mX m A T T1 mLF → zs_I T1 8010 m = 2 → (zs_I T1 8011 m).toInt = t.1 → K T1) :
    zs_C (zx σ n0 bf) d 8028 [.ref m, .int s] T (zs_kV K Q) := by
  have R := W.tt.R
  refine u_X9_takeSign hB (by omega) ?_
  refine ⟨R.K, r_isSign hB (by omega) R W.ww W.knd ?_⟩
  intro v hv
  refine ⟨fun g => ⟨R.K, r_here hB (by omega) R W.ww.ok ?_⟩, fun g => ⟨R.K, r_nx hB (by omega) W (fun T1 k q a1 _ _ _ a2 a3 a4 a5 => hr T1 k q (hv.y g) a1 a2 a3 a4 a5) (fun T1 p a1 a2 a3 a4 => h1 T1 p (hv.y g) a1 a2 a3 a4) hle⟩⟩
  intro T1 q1 q2 q3
  exact h2 T1 (hv.n g) (q1.mk' rfl) q2 (by rw [q3]; exact W.ww.fr)
theorem r_takeKept (hB : zt_B bf) (hd : 6 ≤ d) (W : LR n0 T m A n b L t r0) (hle : ∀ k q, lx_next b (n + 1) L t.2.2.2 = .ok (k, q) → t.2.2.2 ≤ k ∧ k ≤ q.2.2.1 ∧ q.2.2.1 ≤ n) {s : Int32} (hs : 1 ≤ s.toInt ∧ s.toInt ≤ 36) {K : zs_T → Prop}
    (hr : ∀ T1 k q, t.2.1 = 0 ∧ t.2.2.1 = s.toInt - 1 → lx_next b (n + 1) L t.2.2.2 = .ok (k, q) → (nm_off q.2.2.2 q.2.2.2.length ≤ 400 + q.2.2.1 ∧ q.2.2.2.length ≤ 60 + q.2.2.1 → LR n0 T1 m A n b q.2.2.2 (k, q.1, q.2.1, q.2.2.1) r0) → mX m A T T1 mLF → mw_n T T1 A L.length q.2.2.2.length → (∀ j, j < r0 → zs_i T1 (A 8021) j = zs_i T (A 8021) j) → K T1)
    (h1 : ∀ T1 p, t.2.1 = 0 ∧ t.2.2.1 = s.toInt - 1 → lx_next b (n + 1) L t.2.2.2 = .error p → mX m A T T1 mLF → zs_I T1 8010 m = 1 → (zs_I T1 8011 m).toInt = p → K T1)
    (h2 : ∀ T1, ¬ (t.2.1 = 0 ∧ t.2.2.1 = s.toInt - 1) → mX m A T T1 mLF → zs_I T1 8010 m = 2 → (zs_I T1 8011 m).toInt = t.1 → K T1) :
    zs_C (zx σ n0 bf) d 8025 [.ref m, .int s] T (zs_kV K Q) := by
  have R := W.tt.R
  refine u_X9_takeKept hB (by omega) ?_
  refine ⟨R.K, r_isKept hB (by omega) R W.ww W.knd hs ?_⟩
  intro v hv
  refine ⟨fun g => ⟨R.K, r_here hB (by omega) R W.ww.ok ?_⟩, fun g => ⟨R.K, r_nx hB (by omega) W (fun T1 k q a1 _ _ _ a2 a3 a4 a5 => hr T1 k q (hv.y g) a1 a2 a3 a4 a5) (fun T1 p a1 a2 a3 a4 => h1 T1 p (hv.y g) a1 a2 a3 a4) hle⟩⟩
  intro T1 q1 q2 q3
  exact h2 T1 (hv.n g) (q1.mk' rfl) q2 (by rw [q3]; exact W.ww.fr)
end WA
