/-! RUNS, WITHOUT THEIR STEPS: more steps, frames and words change no answer (ab_mono); ab_Ev: some run answers so. -/
def ab_Bm (bf : ab_B) : Prop := ∀ z g, bf z = some g → ∀ F L F2 L2 av h n S, F ≤ F2 → L ≤ L2 → g F L av h n = some S → g F2 L2 av h n = some S
theorem ab_mono {P : ab_T} {bf : ab_B} (hm : ab_Bm bf) : ∀ (fuel fuel2 F L F2 L2 y pc : Nat) (lv : ab_L) (st : List Value) (h : ab_H) (n : Nat) (S : ab_S), fuel ≤ fuel2 → F ≤ F2 → L ≤ L2 → ab_run P bf fuel F L y pc lv st h n = some S → ab_run P bf fuel2 F2 L2 y pc lv st h n = some S := by
  intro fuel
  induction fuel with
  | zero => intro fuel2 F L F2 L2 y pc lv st h n S _ _ _ hr; simp [ab_run] at hr
  | succ fuel ih =>
    intro fuel2 F L F2 L2 y pc lv st h n S hf hF hL hr
    obtain ⟨k, rfl⟩ : ∃ k, fuel2 = k + 1 := ⟨fuel2 - 1, by omega⟩
    have hf : fuel ≤ k := by omega
    unfold ab_run at hr ⊢
    split at hr
    · cases hr
    · rename_i i len hd
      try rw [hd]
      try dsimp only
      split at hr
      · rename_i k9 f9 hi
        try rw [hi]
        try dsimp only
        split at hr
        · rename_i hlen
          rw [if_pos hlen]
          split at hr
          · rename_i st1 hs
            try rw [hs]
            exact ih _ _ _ _ _ _ _ _ _ _ _ _ hf hF hL hr
          · cases hr
        · cases hr
      · rename_i hi
        try rw [hi]
        try dsimp only
        split at hr
        · rename_i f9 h9
          try rw [h9]
          exact ih _ _ _ _ _ _ _ _ _ _ _ _ hf hF hL hr
        · rename_i h9
          try rw [h9]
          try dsimp only
          split at hr
          · rename_i x hx
            try rw [hx]
            try dsimp only
            obtain ⟨S1, hS1, hS2⟩ := Option.map_eq_some_iff.mp hr
            rw [ih _ _ _ _ _ _ _ _ _ _ _ _ hf hF hL hS1, ← hS2]
            rfl
          · rename_i hx
            try rw [hx]
            try dsimp only
            split at hr
            · rename_i o ho
              try rw [ho]
              exact hr
            · rename_i ho
              try rw [ho]
              try dsimp only
              split at hr
              · cases hr
              · rename_i how idx hiv
                try rw [hiv]
                try dsimp only
                split at hr
                · cases hr
                · rename_i z av r9 hw
                  try rw [hw]
                  try dsimp only
                  split at hr
                  · rename_i hc
                    obtain ⟨c1, c2, c3, c4⟩ := hc
                    rw [if_pos ⟨c1, by omega, by omega, c4⟩]
                    split at hr
                    · cases hr
                    · rename_i S1 hS1
                      have hS3 : ab_or (bf z) (F2 - 1) (L2 - (19 + ab_maxL P z)) av h n (ab_run P bf k (F2 - 1) (L2 - (19 + ab_maxL P z)) z 0 (lv_args 0 av) [] h n) = some S1 := by
                        unfold ab_or at hS1 ⊢
                        split at hS1
                        · rename_i g hg
                          exact hm _ _ hg _ _ _ _ _ _ _ _ (by omega) (by omega) hS1
                        · exact ih _ _ _ _ _ _ _ _ _ _ _ _ hf (by omega) (by omega) hS1
                      try rw [hS3]
                      try dsimp only
                      split at hr
                      · rename_i v hv
                        try rw [hv]
                        try dsimp only
                        obtain ⟨S4, hS4, hS5⟩ := Option.map_eq_some_iff.mp hr
                        rw [ih _ _ _ _ _ _ _ _ _ _ _ _ hf hF hL hS4, ← hS5]
                        rfl
                      · rename_i x hx9
                        try rw [hx9]
                        exact hr
                  · cases hr
/-- some run, with d frames and 46 words for each, answers so -/
def ab_Ev (P : ab_T) (bf : ab_B) (d y pc : Nat) (lv : ab_L) (st : List Value) (h : ab_H) (n : Nat) (S : ab_S) : Prop := ∃ fuel, ab_run P bf fuel d (46 * d) y pc lv st h n = some S
/-- a method's call, by its law or by its code -/
def ab_Ca (P : ab_T) (bf : ab_B) (d z : Nat) (av : List Value) (h : ab_H) (n : Nat) (S : ab_S) : Prop := match bf z with
  | some g => g d (46 * d) av h n = some S
  | none => ab_Ev P bf d z 0 (lv_args 0 av) [] h n S
