/-! For the printed units -/
theorem zs_gp1 {L : ab_L} {i j : Nat} {w v : Value} (hj0 : Nat.beq j i = false) (hc0 : v.category = 1 ∨ Nat.beq (j + 1) i = false) (h : ab_get L j = some v) : ab_get (ab_put1 L i w) j = some v := by
  have hj : j ≠ i := Nat.ne_of_beq_eq_false hj0
  have hc : v.category = 1 ∨ j + 1 ≠ i := hc0.imp id Nat.ne_of_beq_eq_false
  have h4 := zs_find (p := fun q => !(q.1 == i) && !(q.1 + 1 == i && q.2.category == 2)) h (by
    rcases hc with hc | hc
    · simp [hj, hc]
    · simp [hj, hc])
  unfold ab_put1
  unfold ab_get at h4 ⊢
  rw [List.find?_cons]
  have h5 : (i == j) = false := by simpa using fun h => hj h.symm
  simp only [h5]
  exact h4
theorem zs_gp2 {L : ab_L} {i j : Nat} {w v : Value} (hj0 : Nat.beq j i = false) (hj20 : Nat.beq j (i + 1) = false) (hc0 : v.category = 1 ∨ Nat.beq (j + 1) i = false) (h : ab_get L j = some v) : ab_get (ab_put2 L i w) j = some v := by
  have hj : j ≠ i := Nat.ne_of_beq_eq_false hj0
  have hj2 : j ≠ i + 1 := Nat.ne_of_beq_eq_false hj20
  have hc : v.category = 1 ∨ j + 1 ≠ i := hc0.imp id Nat.ne_of_beq_eq_false
  have h4 := zs_find (p := fun q => !(q.1 == i) && (!(q.1 == i + 1) && !(q.1 + 1 == i && q.2.category == 2))) h (by
    rcases hc with hc | hc
    · simp [hj, hj2, hc]
    · simp [hj, hj2, hc])
  unfold ab_put2
  unfold ab_get at h4 ⊢
  rw [List.find?_cons]
  have h5 : (i == j) = false := by simpa using fun h => hj h.symm
  simp only [h5]
  exact h4
theorem zs_KsI (S : zs_T) (f a : Nat) (v : Int32) : ∀ b, zs_K (zs_sI S f a v) b = zs_K S b := fun _ => rfl
theorem zs_KsJ (S : zs_T) (f a : Nat) (v : Int64) : ∀ b, zs_K (zs_sJ S f a v) b = zs_K S b := fun _ => rfl
theorem zs_KsR (S : zs_T) (f a : Nat) (v : Option Nat) : ∀ b, zs_K (zs_sR S f a v) b = zs_K S b := fun _ => rfl
theorem zs_Ksi (S : zs_T) (f a : Nat) (v : Int32) : ∀ b, zs_K (zs_si S f a v) b = zs_K S b := fun _ => rfl
theorem zs_Ksj (S : zs_T) (f a : Nat) (v : Int64) : ∀ b, zs_K (zs_sj S f a v) b = zs_K S b := fun _ => rfl
theorem zs_Ksr (S : zs_T) (f a : Nat) (v : Option Nat) : ∀ b, zs_K (zs_sr S f a v) b = zs_K S b := fun _ => rfl
theorem zs_Kt {S S1 S2 B : zs_T} (e : S2 = S1) (k : ∀ b, zs_K S2 b = zs_K S b) (K : ∀ b, zs_K S b = zs_K B b) : ∀ b, zs_K S1 b = zs_K B b := by
  subst e
  exact fun b => (k b).trans (K b)
theorem zs_Ak {S S1 : zs_T} {a k : Nat} {i : Int32} (K : ∀ b, zs_K S1 b = zs_K S b) (h : zs_A S a k i) : zs_A S1 a k i := by
  obtain ⟨n, h1, h2⟩ := h
  exact ⟨n, (K a).trans h1, h2⟩
theorem zd {c1 c2 : ByteArray} {pc : Nat} {r : Except DecodeError (Instr × Nat)} (h : c1 = c2) (hd : decode c2 pc = r) : decode c1 pc = r := by rw [h]; exact hd
theorem zs_lt {a b k : Nat} (h : a = b) (h2 : Nat.blt k b = true) : k < a := by rw [h]; exact Nat.le_of_ble_eq_true h2
theorem zs_rfe {o : Option Nat} {b : Nat} (h : o = some b) : va_rf o = .ref b := by rw [h]; rfl
theorem zs_kn {S S1 : zs_T} {e : Nat ⊕ (Nat × Nat)} {m a : Nat} (h1 : zs_N S = a) (h2 : zs_nw S e m = S1) : zs_K S1 a = some e := by
  subst h1; subst h2; simp [zs_rdn]
theorem zs_sub_self (L : ab_L) (h : zs_sub L L) : zs_in L L := by
  have h9 : ∀ L1, zs_sub L1 L → zs_in L1 L := by
    intro L1
    induction L1 with
    | nil => intro _ q hq; cases hq
    | cons a r ih =>
      intro hs q hq
      rcases List.mem_cons.mp hq with e | e
      · subst e; exact hs.1
      · exact ih hs.2 q e
  exact h9 L h
section ZSTK
variable {X : zs_X} {d y pc : Nat} {L : ab_L} {r : List Value} {S : zs_T} {Q : zs_Q} {v w : Value}
theorem zs_stk0 (h : v = w) (kk : zs_U X d y pc L (w :: r) S Q) : zs_U X d y pc L (v :: r) S Q := by rw [h]; exact kk
theorem zs_stk1 {v0 : Value} (h : v = w) (kk : zs_U X d y pc L (v0 :: w :: r) S Q) : zs_U X d y pc L (v0 :: v :: r) S Q := by rw [h]; exact kk
theorem zs_stk2 {v0 v1 : Value} (h : v = w) (kk : zs_U X d y pc L (v0 :: v1 :: w :: r) S Q) : zs_U X d y pc L (v0 :: v1 :: v :: r) S Q := by rw [h]; exact kk
theorem zs_stk3 {v0 v1 v2 : Value} (h : v = w) (kk : zs_U X d y pc L (v0 :: v1 :: v2 :: w :: r) S Q) : zs_U X d y pc L (v0 :: v1 :: v2 :: v :: r) S Q := by rw [h]; exact kk
theorem zs_stk4 {v0 v1 v2 v3 : Value} (h : v = w) (kk : zs_U X d y pc L (v0 :: v1 :: v2 :: v3 :: w :: r) S Q) : zs_U X d y pc L (v0 :: v1 :: v2 :: v3 :: v :: r) S Q := by rw [h]; exact kk
theorem zs_stk5 {v0 v1 v2 v3 v4 : Value} (h : v = w) (kk : zs_U X d y pc L (v0 :: v1 :: v2 :: v3 :: v4 :: w :: r) S Q) : zs_U X d y pc L (v0 :: v1 :: v2 :: v3 :: v4 :: v :: r) S Q := by rw [h]; exact kk
theorem zs_stk6 {v0 v1 v2 v3 v4 v5 : Value} (h : v = w) (kk : zs_U X d y pc L (v0 :: v1 :: v2 :: v3 :: v4 :: v5 :: w :: r) S Q) : zs_U X d y pc L (v0 :: v1 :: v2 :: v3 :: v4 :: v5 :: v :: r) S Q := by rw [h]; exact kk
theorem zs_stk7 {v0 v1 v2 v3 v4 v5 v6 : Value} (h : v = w) (kk : zs_U X d y pc L (v0 :: v1 :: v2 :: v3 :: v4 :: v5 :: v6 :: w :: r) S Q) : zs_U X d y pc L (v0 :: v1 :: v2 :: v3 :: v4 :: v5 :: v6 :: v :: r) S Q := by rw [h]; exact kk
theorem zs_stk8 {v0 v1 v2 v3 v4 v5 v6 v7 : Value} (h : v = w) (kk : zs_U X d y pc L (v0 :: v1 :: v2 :: v3 :: v4 :: v5 :: v6 :: v7 :: w :: r) S Q) : zs_U X d y pc L (v0 :: v1 :: v2 :: v3 :: v4 :: v5 :: v6 :: v7 :: v :: r) S Q := by rw [h]; exact kk
end ZSTK
theorem zh_128 : (Int16.ofInt (128)).toInt32 = (128 : Int32) := by decide
theorem zh_129 : (Int16.ofInt (129)).toInt32 = (129 : Int32) := by decide
theorem zh_130 : (Int16.ofInt (130)).toInt32 = (130 : Int32) := by decide
theorem zh_131 : (Int16.ofInt (131)).toInt32 = (131 : Int32) := by decide
theorem zh_132 : (Int16.ofInt (132)).toInt32 = (132 : Int32) := by decide
theorem zh_133 : (Int16.ofInt (133)).toInt32 = (133 : Int32) := by decide
theorem zh_134 : (Int16.ofInt (134)).toInt32 = (134 : Int32) := by decide
theorem zh_135 : (Int16.ofInt (135)).toInt32 = (135 : Int32) := by decide
theorem zh_136 : (Int16.ofInt (136)).toInt32 = (136 : Int32) := by decide
theorem zh_137 : (Int16.ofInt (137)).toInt32 = (137 : Int32) := by decide
theorem zh_138 : (Int16.ofInt (138)).toInt32 = (138 : Int32) := by decide
theorem zh_139 : (Int16.ofInt (139)).toInt32 = (139 : Int32) := by decide
theorem zh_140 : (Int16.ofInt (140)).toInt32 = (140 : Int32) := by decide
theorem zh_141 : (Int16.ofInt (141)).toInt32 = (141 : Int32) := by decide
theorem zh_142 : (Int16.ofInt (142)).toInt32 = (142 : Int32) := by decide
theorem zh_143 : (Int16.ofInt (143)).toInt32 = (143 : Int32) := by decide
theorem zh_144 : (Int16.ofInt (144)).toInt32 = (144 : Int32) := by decide
theorem zh_145 : (Int16.ofInt (145)).toInt32 = (145 : Int32) := by decide
theorem zh_146 : (Int16.ofInt (146)).toInt32 = (146 : Int32) := by decide
theorem zh_147 : (Int16.ofInt (147)).toInt32 = (147 : Int32) := by decide
theorem zh_148 : (Int16.ofInt (148)).toInt32 = (148 : Int32) := by decide
theorem zh_149 : (Int16.ofInt (149)).toInt32 = (149 : Int32) := by decide
theorem zh_150 : (Int16.ofInt (150)).toInt32 = (150 : Int32) := by decide
theorem zh_151 : (Int16.ofInt (151)).toInt32 = (151 : Int32) := by decide
theorem zh_152 : (Int16.ofInt (152)).toInt32 = (152 : Int32) := by decide
theorem zh_153 : (Int16.ofInt (153)).toInt32 = (153 : Int32) := by decide
theorem zh_154 : (Int16.ofInt (154)).toInt32 = (154 : Int32) := by decide
theorem zh_155 : (Int16.ofInt (155)).toInt32 = (155 : Int32) := by decide
theorem zh_156 : (Int16.ofInt (156)).toInt32 = (156 : Int32) := by decide
theorem zh_157 : (Int16.ofInt (157)).toInt32 = (157 : Int32) := by decide
theorem zh_158 : (Int16.ofInt (158)).toInt32 = (158 : Int32) := by decide
theorem zh_159 : (Int16.ofInt (159)).toInt32 = (159 : Int32) := by decide
theorem zh_160 : (Int16.ofInt (160)).toInt32 = (160 : Int32) := by decide
theorem zh_161 : (Int16.ofInt (161)).toInt32 = (161 : Int32) := by decide
theorem zh_162 : (Int16.ofInt (162)).toInt32 = (162 : Int32) := by decide
theorem zh_163 : (Int16.ofInt (163)).toInt32 = (163 : Int32) := by decide
theorem zh_164 : (Int16.ofInt (164)).toInt32 = (164 : Int32) := by decide
theorem zh_165 : (Int16.ofInt (165)).toInt32 = (165 : Int32) := by decide
theorem zh_166 : (Int16.ofInt (166)).toInt32 = (166 : Int32) := by decide
theorem zh_167 : (Int16.ofInt (167)).toInt32 = (167 : Int32) := by decide
theorem zh_168 : (Int16.ofInt (168)).toInt32 = (168 : Int32) := by decide
theorem zh_169 : (Int16.ofInt (169)).toInt32 = (169 : Int32) := by decide
theorem zh_170 : (Int16.ofInt (170)).toInt32 = (170 : Int32) := by decide
theorem zh_171 : (Int16.ofInt (171)).toInt32 = (171 : Int32) := by decide
theorem zh_172 : (Int16.ofInt (172)).toInt32 = (172 : Int32) := by decide
theorem zh_173 : (Int16.ofInt (173)).toInt32 = (173 : Int32) := by decide
theorem zh_174 : (Int16.ofInt (174)).toInt32 = (174 : Int32) := by decide
theorem zh_175 : (Int16.ofInt (175)).toInt32 = (175 : Int32) := by decide
theorem zh_176 : (Int16.ofInt (176)).toInt32 = (176 : Int32) := by decide
theorem zh_177 : (Int16.ofInt (177)).toInt32 = (177 : Int32) := by decide
theorem zh_178 : (Int16.ofInt (178)).toInt32 = (178 : Int32) := by decide
theorem zh_179 : (Int16.ofInt (179)).toInt32 = (179 : Int32) := by decide
theorem zh_180 : (Int16.ofInt (180)).toInt32 = (180 : Int32) := by decide
theorem zh_181 : (Int16.ofInt (181)).toInt32 = (181 : Int32) := by decide
theorem zh_182 : (Int16.ofInt (182)).toInt32 = (182 : Int32) := by decide
theorem zh_183 : (Int16.ofInt (183)).toInt32 = (183 : Int32) := by decide
theorem zh_184 : (Int16.ofInt (184)).toInt32 = (184 : Int32) := by decide
theorem zh_185 : (Int16.ofInt (185)).toInt32 = (185 : Int32) := by decide
theorem zh_186 : (Int16.ofInt (186)).toInt32 = (186 : Int32) := by decide
theorem zh_187 : (Int16.ofInt (187)).toInt32 = (187 : Int32) := by decide
theorem zh_188 : (Int16.ofInt (188)).toInt32 = (188 : Int32) := by decide
theorem zh_189 : (Int16.ofInt (189)).toInt32 = (189 : Int32) := by decide
theorem zh_190 : (Int16.ofInt (190)).toInt32 = (190 : Int32) := by decide
theorem zh_191 : (Int16.ofInt (191)).toInt32 = (191 : Int32) := by decide
theorem zh_192 : (Int16.ofInt (192)).toInt32 = (192 : Int32) := by decide
theorem zh_193 : (Int16.ofInt (193)).toInt32 = (193 : Int32) := by decide
theorem zh_194 : (Int16.ofInt (194)).toInt32 = (194 : Int32) := by decide
theorem zh_195 : (Int16.ofInt (195)).toInt32 = (195 : Int32) := by decide
theorem zh_196 : (Int16.ofInt (196)).toInt32 = (196 : Int32) := by decide
theorem zh_197 : (Int16.ofInt (197)).toInt32 = (197 : Int32) := by decide
theorem zh_198 : (Int16.ofInt (198)).toInt32 = (198 : Int32) := by decide
theorem zh_199 : (Int16.ofInt (199)).toInt32 = (199 : Int32) := by decide
theorem zh_200 : (Int16.ofInt (200)).toInt32 = (200 : Int32) := by decide
theorem zh_201 : (Int16.ofInt (201)).toInt32 = (201 : Int32) := by decide
theorem zh_202 : (Int16.ofInt (202)).toInt32 = (202 : Int32) := by decide
theorem zh_203 : (Int16.ofInt (203)).toInt32 = (203 : Int32) := by decide
theorem zh_204 : (Int16.ofInt (204)).toInt32 = (204 : Int32) := by decide
theorem zh_205 : (Int16.ofInt (205)).toInt32 = (205 : Int32) := by decide
theorem zh_206 : (Int16.ofInt (206)).toInt32 = (206 : Int32) := by decide
theorem zh_207 : (Int16.ofInt (207)).toInt32 = (207 : Int32) := by decide
theorem zh_208 : (Int16.ofInt (208)).toInt32 = (208 : Int32) := by decide
theorem zh_209 : (Int16.ofInt (209)).toInt32 = (209 : Int32) := by decide
theorem zh_210 : (Int16.ofInt (210)).toInt32 = (210 : Int32) := by decide
theorem zh_211 : (Int16.ofInt (211)).toInt32 = (211 : Int32) := by decide
theorem zh_212 : (Int16.ofInt (212)).toInt32 = (212 : Int32) := by decide
theorem zh_213 : (Int16.ofInt (213)).toInt32 = (213 : Int32) := by decide
theorem zh_214 : (Int16.ofInt (214)).toInt32 = (214 : Int32) := by decide
theorem zh_215 : (Int16.ofInt (215)).toInt32 = (215 : Int32) := by decide
theorem zh_216 : (Int16.ofInt (216)).toInt32 = (216 : Int32) := by decide
theorem zh_217 : (Int16.ofInt (217)).toInt32 = (217 : Int32) := by decide
theorem zh_218 : (Int16.ofInt (218)).toInt32 = (218 : Int32) := by decide
theorem zh_219 : (Int16.ofInt (219)).toInt32 = (219 : Int32) := by decide
theorem zh_220 : (Int16.ofInt (220)).toInt32 = (220 : Int32) := by decide
theorem zh_221 : (Int16.ofInt (221)).toInt32 = (221 : Int32) := by decide
theorem zh_222 : (Int16.ofInt (222)).toInt32 = (222 : Int32) := by decide
theorem zh_223 : (Int16.ofInt (223)).toInt32 = (223 : Int32) := by decide
theorem zh_224 : (Int16.ofInt (224)).toInt32 = (224 : Int32) := by decide
theorem zh_225 : (Int16.ofInt (225)).toInt32 = (225 : Int32) := by decide
theorem zh_226 : (Int16.ofInt (226)).toInt32 = (226 : Int32) := by decide
theorem zh_227 : (Int16.ofInt (227)).toInt32 = (227 : Int32) := by decide
theorem zh_228 : (Int16.ofInt (228)).toInt32 = (228 : Int32) := by decide
theorem zh_229 : (Int16.ofInt (229)).toInt32 = (229 : Int32) := by decide
theorem zh_230 : (Int16.ofInt (230)).toInt32 = (230 : Int32) := by decide
theorem zh_231 : (Int16.ofInt (231)).toInt32 = (231 : Int32) := by decide
theorem zh_232 : (Int16.ofInt (232)).toInt32 = (232 : Int32) := by decide
theorem zh_233 : (Int16.ofInt (233)).toInt32 = (233 : Int32) := by decide
theorem zh_234 : (Int16.ofInt (234)).toInt32 = (234 : Int32) := by decide
theorem zh_235 : (Int16.ofInt (235)).toInt32 = (235 : Int32) := by decide
theorem zh_236 : (Int16.ofInt (236)).toInt32 = (236 : Int32) := by decide
theorem zh_237 : (Int16.ofInt (237)).toInt32 = (237 : Int32) := by decide
theorem zh_238 : (Int16.ofInt (238)).toInt32 = (238 : Int32) := by decide
theorem zh_239 : (Int16.ofInt (239)).toInt32 = (239 : Int32) := by decide
theorem zh_240 : (Int16.ofInt (240)).toInt32 = (240 : Int32) := by decide
theorem zh_241 : (Int16.ofInt (241)).toInt32 = (241 : Int32) := by decide
theorem zh_242 : (Int16.ofInt (242)).toInt32 = (242 : Int32) := by decide
theorem zh_243 : (Int16.ofInt (243)).toInt32 = (243 : Int32) := by decide
theorem zh_244 : (Int16.ofInt (244)).toInt32 = (244 : Int32) := by decide
theorem zh_245 : (Int16.ofInt (245)).toInt32 = (245 : Int32) := by decide
theorem zh_246 : (Int16.ofInt (246)).toInt32 = (246 : Int32) := by decide
theorem zh_247 : (Int16.ofInt (247)).toInt32 = (247 : Int32) := by decide
theorem zh_248 : (Int16.ofInt (248)).toInt32 = (248 : Int32) := by decide
theorem zh_249 : (Int16.ofInt (249)).toInt32 = (249 : Int32) := by decide
theorem zh_250 : (Int16.ofInt (250)).toInt32 = (250 : Int32) := by decide
theorem zh_251 : (Int16.ofInt (251)).toInt32 = (251 : Int32) := by decide
theorem zh_252 : (Int16.ofInt (252)).toInt32 = (252 : Int32) := by decide
theorem zh_253 : (Int16.ofInt (253)).toInt32 = (253 : Int32) := by decide
theorem zh_254 : (Int16.ofInt (254)).toInt32 = (254 : Int32) := by decide
theorem zh_255 : (Int16.ofInt (255)).toInt32 = (255 : Int32) := by decide
theorem zh_256 : (Int16.ofInt (256)).toInt32 = (256 : Int32) := by decide
theorem zh_257 : (Int16.ofInt (257)).toInt32 = (257 : Int32) := by decide
theorem zh_258 : (Int16.ofInt (258)).toInt32 = (258 : Int32) := by decide
theorem zh_259 : (Int16.ofInt (259)).toInt32 = (259 : Int32) := by decide
theorem zh_260 : (Int16.ofInt (260)).toInt32 = (260 : Int32) := by decide
theorem zh_261 : (Int16.ofInt (261)).toInt32 = (261 : Int32) := by decide
theorem zh_262 : (Int16.ofInt (262)).toInt32 = (262 : Int32) := by decide
theorem zh_263 : (Int16.ofInt (263)).toInt32 = (263 : Int32) := by decide
theorem zh_264 : (Int16.ofInt (264)).toInt32 = (264 : Int32) := by decide
theorem zh_265 : (Int16.ofInt (265)).toInt32 = (265 : Int32) := by decide
theorem zh_266 : (Int16.ofInt (266)).toInt32 = (266 : Int32) := by decide
theorem zh_267 : (Int16.ofInt (267)).toInt32 = (267 : Int32) := by decide
theorem zh_268 : (Int16.ofInt (268)).toInt32 = (268 : Int32) := by decide
theorem zh_269 : (Int16.ofInt (269)).toInt32 = (269 : Int32) := by decide
theorem zh_270 : (Int16.ofInt (270)).toInt32 = (270 : Int32) := by decide
theorem zh_271 : (Int16.ofInt (271)).toInt32 = (271 : Int32) := by decide
theorem zh_272 : (Int16.ofInt (272)).toInt32 = (272 : Int32) := by decide
theorem zh_273 : (Int16.ofInt (273)).toInt32 = (273 : Int32) := by decide
theorem zh_274 : (Int16.ofInt (274)).toInt32 = (274 : Int32) := by decide
theorem zh_275 : (Int16.ofInt (275)).toInt32 = (275 : Int32) := by decide
theorem zh_276 : (Int16.ofInt (276)).toInt32 = (276 : Int32) := by decide
theorem zh_277 : (Int16.ofInt (277)).toInt32 = (277 : Int32) := by decide
theorem zh_278 : (Int16.ofInt (278)).toInt32 = (278 : Int32) := by decide
theorem zh_279 : (Int16.ofInt (279)).toInt32 = (279 : Int32) := by decide
theorem zh_280 : (Int16.ofInt (280)).toInt32 = (280 : Int32) := by decide
theorem zh_281 : (Int16.ofInt (281)).toInt32 = (281 : Int32) := by decide
theorem zh_282 : (Int16.ofInt (282)).toInt32 = (282 : Int32) := by decide
theorem zh_283 : (Int16.ofInt (283)).toInt32 = (283 : Int32) := by decide
theorem zh_284 : (Int16.ofInt (284)).toInt32 = (284 : Int32) := by decide
theorem zh_285 : (Int16.ofInt (285)).toInt32 = (285 : Int32) := by decide
theorem zh_286 : (Int16.ofInt (286)).toInt32 = (286 : Int32) := by decide
theorem zh_287 : (Int16.ofInt (287)).toInt32 = (287 : Int32) := by decide
theorem zh_288 : (Int16.ofInt (288)).toInt32 = (288 : Int32) := by decide
theorem zh_289 : (Int16.ofInt (289)).toInt32 = (289 : Int32) := by decide
theorem zh_290 : (Int16.ofInt (290)).toInt32 = (290 : Int32) := by decide
theorem zh_291 : (Int16.ofInt (291)).toInt32 = (291 : Int32) := by decide
theorem zh_292 : (Int16.ofInt (292)).toInt32 = (292 : Int32) := by decide
theorem zh_293 : (Int16.ofInt (293)).toInt32 = (293 : Int32) := by decide
theorem zh_294 : (Int16.ofInt (294)).toInt32 = (294 : Int32) := by decide
theorem zh_295 : (Int16.ofInt (295)).toInt32 = (295 : Int32) := by decide
theorem zh_296 : (Int16.ofInt (296)).toInt32 = (296 : Int32) := by decide
theorem zh_297 : (Int16.ofInt (297)).toInt32 = (297 : Int32) := by decide
theorem zh_298 : (Int16.ofInt (298)).toInt32 = (298 : Int32) := by decide
theorem zh_299 : (Int16.ofInt (299)).toInt32 = (299 : Int32) := by decide
theorem zh_300 : (Int16.ofInt (300)).toInt32 = (300 : Int32) := by decide
theorem zh_301 : (Int16.ofInt (301)).toInt32 = (301 : Int32) := by decide
theorem zh_302 : (Int16.ofInt (302)).toInt32 = (302 : Int32) := by decide
theorem zh_303 : (Int16.ofInt (303)).toInt32 = (303 : Int32) := by decide
theorem zh_304 : (Int16.ofInt (304)).toInt32 = (304 : Int32) := by decide
theorem zh_305 : (Int16.ofInt (305)).toInt32 = (305 : Int32) := by decide
theorem zh_306 : (Int16.ofInt (306)).toInt32 = (306 : Int32) := by decide
theorem zh_307 : (Int16.ofInt (307)).toInt32 = (307 : Int32) := by decide
theorem zh_308 : (Int16.ofInt (308)).toInt32 = (308 : Int32) := by decide
theorem zh_309 : (Int16.ofInt (309)).toInt32 = (309 : Int32) := by decide
theorem zh_310 : (Int16.ofInt (310)).toInt32 = (310 : Int32) := by decide
theorem zh_311 : (Int16.ofInt (311)).toInt32 = (311 : Int32) := by decide
theorem zh_312 : (Int16.ofInt (312)).toInt32 = (312 : Int32) := by decide
theorem zh_313 : (Int16.ofInt (313)).toInt32 = (313 : Int32) := by decide
theorem zh_314 : (Int16.ofInt (314)).toInt32 = (314 : Int32) := by decide
theorem zh_315 : (Int16.ofInt (315)).toInt32 = (315 : Int32) := by decide
theorem zh_316 : (Int16.ofInt (316)).toInt32 = (316 : Int32) := by decide
theorem zh_317 : (Int16.ofInt (317)).toInt32 = (317 : Int32) := by decide
theorem zh_318 : (Int16.ofInt (318)).toInt32 = (318 : Int32) := by decide
theorem zh_319 : (Int16.ofInt (319)).toInt32 = (319 : Int32) := by decide
theorem zh_320 : (Int16.ofInt (320)).toInt32 = (320 : Int32) := by decide
theorem zh_321 : (Int16.ofInt (321)).toInt32 = (321 : Int32) := by decide
theorem zh_322 : (Int16.ofInt (322)).toInt32 = (322 : Int32) := by decide
theorem zh_323 : (Int16.ofInt (323)).toInt32 = (323 : Int32) := by decide
theorem zh_324 : (Int16.ofInt (324)).toInt32 = (324 : Int32) := by decide
theorem zh_325 : (Int16.ofInt (325)).toInt32 = (325 : Int32) := by decide
theorem zh_326 : (Int16.ofInt (326)).toInt32 = (326 : Int32) := by decide
theorem zh_327 : (Int16.ofInt (327)).toInt32 = (327 : Int32) := by decide
theorem zh_328 : (Int16.ofInt (328)).toInt32 = (328 : Int32) := by decide
theorem zh_329 : (Int16.ofInt (329)).toInt32 = (329 : Int32) := by decide
theorem zh_330 : (Int16.ofInt (330)).toInt32 = (330 : Int32) := by decide
theorem zh_331 : (Int16.ofInt (331)).toInt32 = (331 : Int32) := by decide
theorem zh_332 : (Int16.ofInt (332)).toInt32 = (332 : Int32) := by decide
theorem zh_400 : (Int16.ofInt (400)).toInt32 = (400 : Int32) := by decide
theorem zh_1000 : (Int16.ofInt (1000)).toInt32 = (1000 : Int32) := by decide
theorem zh_1023 : (Int16.ofInt (1023)).toInt32 = (1023 : Int32) := by decide
theorem zh_1024 : (Int16.ofInt (1024)).toInt32 = (1024 : Int32) := by decide
theorem zh_1030 : (Int16.ofInt (1030)).toInt32 = (1030 : Int32) := by decide
theorem zh_1031 : (Int16.ofInt (1031)).toInt32 = (1031 : Int32) := by decide
theorem zh_1032 : (Int16.ofInt (1032)).toInt32 = (1032 : Int32) := by decide
theorem zh_1033 : (Int16.ofInt (1033)).toInt32 = (1033 : Int32) := by decide
theorem zh_4000 : (Int16.ofInt (4000)).toInt32 = (4000 : Int32) := by decide
theorem zh_4001 : (Int16.ofInt (4001)).toInt32 = (4001 : Int32) := by decide
theorem zh_4095 : (Int16.ofInt (4095)).toInt32 = (4095 : Int32) := by decide
theorem zh_4096 : (Int16.ofInt (4096)).toInt32 = (4096 : Int32) := by decide
theorem zh_4200 : (Int16.ofInt (4200)).toInt32 = (4200 : Int32) := by decide
theorem zh_8000 : (Int16.ofInt (8000)).toInt32 = (8000 : Int32) := by decide
theorem zh_9000 : (Int16.ofInt (9000)).toInt32 = (9000 : Int32) := by decide
theorem zh_16000 : (Int16.ofInt (16000)).toInt32 = (16000 : Int32) := by decide
theorem zh_16400 : (Int16.ofInt (16400)).toInt32 = (16400 : Int32) := by decide
theorem zh_16640 : (Int16.ofInt (16640)).toInt32 = (16640 : Int32) := by decide
theorem zh_17000 : (Int16.ofInt (17000)).toInt32 = (17000 : Int32) := by decide
theorem zh_20000 : (Int16.ofInt (20000)).toInt32 = (20000 : Int32) := by decide
theorem zh_20001 : (Int16.ofInt (20001)).toInt32 = (20001 : Int32) := by decide
theorem zh_20081 : (Int16.ofInt (20081)).toInt32 = (20081 : Int32) := by decide
theorem zh_20100 : (Int16.ofInt (20100)).toInt32 = (20100 : Int32) := by decide
theorem zh_20400 : (Int16.ofInt (20400)).toInt32 = (20400 : Int32) := by decide
theorem zh_21000 : (Int16.ofInt (21000)).toInt32 = (21000 : Int32) := by decide
theorem zh_32000 : (Int16.ofInt (32000)).toInt32 = (32000 : Int32) := by decide
theorem zi_m8 : Int32.ofInt (-8) = (-8 : Int32) := by decide
theorem zi_m1 : Int32.ofInt (-1) = (-1 : Int32) := by decide
theorem zi_0 : Int32.ofInt (0) = (0 : Int32) := by decide
theorem zi_1 : Int32.ofInt (1) = (1 : Int32) := by decide
theorem zi_2 : Int32.ofInt (2) = (2 : Int32) := by decide
theorem zi_3 : Int32.ofInt (3) = (3 : Int32) := by decide
theorem zi_4 : Int32.ofInt (4) = (4 : Int32) := by decide
theorem zi_5 : Int32.ofInt (5) = (5 : Int32) := by decide
theorem zj_m33 : (Int8.ofInt (-33)).toInt32 = (-33 : Int32) := by decide
theorem zj_m2 : (Int8.ofInt (-2)).toInt32 = (-2 : Int32) := by decide
theorem zj_6 : (Int8.ofInt (6)).toInt32 = (6 : Int32) := by decide
theorem zj_7 : (Int8.ofInt (7)).toInt32 = (7 : Int32) := by decide
theorem zj_8 : (Int8.ofInt (8)).toInt32 = (8 : Int32) := by decide
theorem zj_9 : (Int8.ofInt (9)).toInt32 = (9 : Int32) := by decide
theorem zj_10 : (Int8.ofInt (10)).toInt32 = (10 : Int32) := by decide
theorem zj_11 : (Int8.ofInt (11)).toInt32 = (11 : Int32) := by decide
theorem zj_12 : (Int8.ofInt (12)).toInt32 = (12 : Int32) := by decide
theorem zj_13 : (Int8.ofInt (13)).toInt32 = (13 : Int32) := by decide
theorem zj_14 : (Int8.ofInt (14)).toInt32 = (14 : Int32) := by decide
theorem zj_15 : (Int8.ofInt (15)).toInt32 = (15 : Int32) := by decide
theorem zj_16 : (Int8.ofInt (16)).toInt32 = (16 : Int32) := by decide
theorem zj_17 : (Int8.ofInt (17)).toInt32 = (17 : Int32) := by decide
theorem zj_18 : (Int8.ofInt (18)).toInt32 = (18 : Int32) := by decide
theorem zj_19 : (Int8.ofInt (19)).toInt32 = (19 : Int32) := by decide
theorem zj_20 : (Int8.ofInt (20)).toInt32 = (20 : Int32) := by decide
theorem zj_21 : (Int8.ofInt (21)).toInt32 = (21 : Int32) := by decide
theorem zj_22 : (Int8.ofInt (22)).toInt32 = (22 : Int32) := by decide
theorem zj_23 : (Int8.ofInt (23)).toInt32 = (23 : Int32) := by decide
theorem zj_24 : (Int8.ofInt (24)).toInt32 = (24 : Int32) := by decide
theorem zj_25 : (Int8.ofInt (25)).toInt32 = (25 : Int32) := by decide
theorem zj_26 : (Int8.ofInt (26)).toInt32 = (26 : Int32) := by decide
theorem zj_27 : (Int8.ofInt (27)).toInt32 = (27 : Int32) := by decide
theorem zj_28 : (Int8.ofInt (28)).toInt32 = (28 : Int32) := by decide
theorem zj_29 : (Int8.ofInt (29)).toInt32 = (29 : Int32) := by decide
theorem zj_30 : (Int8.ofInt (30)).toInt32 = (30 : Int32) := by decide
theorem zj_31 : (Int8.ofInt (31)).toInt32 = (31 : Int32) := by decide
theorem zj_32 : (Int8.ofInt (32)).toInt32 = (32 : Int32) := by decide
theorem zj_33 : (Int8.ofInt (33)).toInt32 = (33 : Int32) := by decide
theorem zj_34 : (Int8.ofInt (34)).toInt32 = (34 : Int32) := by decide
theorem zj_35 : (Int8.ofInt (35)).toInt32 = (35 : Int32) := by decide
theorem zj_36 : (Int8.ofInt (36)).toInt32 = (36 : Int32) := by decide
theorem zj_37 : (Int8.ofInt (37)).toInt32 = (37 : Int32) := by decide
theorem zj_38 : (Int8.ofInt (38)).toInt32 = (38 : Int32) := by decide
theorem zj_39 : (Int8.ofInt (39)).toInt32 = (39 : Int32) := by decide
theorem zj_40 : (Int8.ofInt (40)).toInt32 = (40 : Int32) := by decide
theorem zj_41 : (Int8.ofInt (41)).toInt32 = (41 : Int32) := by decide
theorem zj_42 : (Int8.ofInt (42)).toInt32 = (42 : Int32) := by decide
theorem zj_43 : (Int8.ofInt (43)).toInt32 = (43 : Int32) := by decide
theorem zj_44 : (Int8.ofInt (44)).toInt32 = (44 : Int32) := by decide
theorem zj_45 : (Int8.ofInt (45)).toInt32 = (45 : Int32) := by decide
theorem zj_46 : (Int8.ofInt (46)).toInt32 = (46 : Int32) := by decide
theorem zj_47 : (Int8.ofInt (47)).toInt32 = (47 : Int32) := by decide
theorem zj_48 : (Int8.ofInt (48)).toInt32 = (48 : Int32) := by decide
theorem zj_49 : (Int8.ofInt (49)).toInt32 = (49 : Int32) := by decide
theorem zj_50 : (Int8.ofInt (50)).toInt32 = (50 : Int32) := by decide
theorem zj_51 : (Int8.ofInt (51)).toInt32 = (51 : Int32) := by decide
theorem zj_52 : (Int8.ofInt (52)).toInt32 = (52 : Int32) := by decide
theorem zj_53 : (Int8.ofInt (53)).toInt32 = (53 : Int32) := by decide
theorem zj_54 : (Int8.ofInt (54)).toInt32 = (54 : Int32) := by decide
theorem zj_55 : (Int8.ofInt (55)).toInt32 = (55 : Int32) := by decide
theorem zj_56 : (Int8.ofInt (56)).toInt32 = (56 : Int32) := by decide
theorem zj_57 : (Int8.ofInt (57)).toInt32 = (57 : Int32) := by decide
theorem zj_58 : (Int8.ofInt (58)).toInt32 = (58 : Int32) := by decide
theorem zj_59 : (Int8.ofInt (59)).toInt32 = (59 : Int32) := by decide
theorem zj_60 : (Int8.ofInt (60)).toInt32 = (60 : Int32) := by decide
theorem zj_61 : (Int8.ofInt (61)).toInt32 = (61 : Int32) := by decide
theorem zj_62 : (Int8.ofInt (62)).toInt32 = (62 : Int32) := by decide
theorem zj_63 : (Int8.ofInt (63)).toInt32 = (63 : Int32) := by decide
theorem zj_64 : (Int8.ofInt (64)).toInt32 = (64 : Int32) := by decide
theorem zj_65 : (Int8.ofInt (65)).toInt32 = (65 : Int32) := by decide
theorem zj_66 : (Int8.ofInt (66)).toInt32 = (66 : Int32) := by decide
theorem zj_67 : (Int8.ofInt (67)).toInt32 = (67 : Int32) := by decide
theorem zj_68 : (Int8.ofInt (68)).toInt32 = (68 : Int32) := by decide
theorem zj_69 : (Int8.ofInt (69)).toInt32 = (69 : Int32) := by decide
theorem zj_70 : (Int8.ofInt (70)).toInt32 = (70 : Int32) := by decide
theorem zj_71 : (Int8.ofInt (71)).toInt32 = (71 : Int32) := by decide
theorem zj_72 : (Int8.ofInt (72)).toInt32 = (72 : Int32) := by decide
theorem zj_73 : (Int8.ofInt (73)).toInt32 = (73 : Int32) := by decide
theorem zj_74 : (Int8.ofInt (74)).toInt32 = (74 : Int32) := by decide
theorem zj_75 : (Int8.ofInt (75)).toInt32 = (75 : Int32) := by decide
theorem zj_76 : (Int8.ofInt (76)).toInt32 = (76 : Int32) := by decide
theorem zj_77 : (Int8.ofInt (77)).toInt32 = (77 : Int32) := by decide
theorem zj_78 : (Int8.ofInt (78)).toInt32 = (78 : Int32) := by decide
theorem zj_79 : (Int8.ofInt (79)).toInt32 = (79 : Int32) := by decide
theorem zj_80 : (Int8.ofInt (80)).toInt32 = (80 : Int32) := by decide
theorem zj_81 : (Int8.ofInt (81)).toInt32 = (81 : Int32) := by decide
theorem zj_82 : (Int8.ofInt (82)).toInt32 = (82 : Int32) := by decide
theorem zj_83 : (Int8.ofInt (83)).toInt32 = (83 : Int32) := by decide
theorem zj_84 : (Int8.ofInt (84)).toInt32 = (84 : Int32) := by decide
theorem zj_85 : (Int8.ofInt (85)).toInt32 = (85 : Int32) := by decide
theorem zj_86 : (Int8.ofInt (86)).toInt32 = (86 : Int32) := by decide
theorem zj_87 : (Int8.ofInt (87)).toInt32 = (87 : Int32) := by decide
theorem zj_88 : (Int8.ofInt (88)).toInt32 = (88 : Int32) := by decide
theorem zj_89 : (Int8.ofInt (89)).toInt32 = (89 : Int32) := by decide
theorem zj_90 : (Int8.ofInt (90)).toInt32 = (90 : Int32) := by decide
theorem zj_91 : (Int8.ofInt (91)).toInt32 = (91 : Int32) := by decide
theorem zj_92 : (Int8.ofInt (92)).toInt32 = (92 : Int32) := by decide
theorem zj_93 : (Int8.ofInt (93)).toInt32 = (93 : Int32) := by decide
theorem zj_94 : (Int8.ofInt (94)).toInt32 = (94 : Int32) := by decide
theorem zj_95 : (Int8.ofInt (95)).toInt32 = (95 : Int32) := by decide
theorem zj_96 : (Int8.ofInt (96)).toInt32 = (96 : Int32) := by decide
theorem zj_97 : (Int8.ofInt (97)).toInt32 = (97 : Int32) := by decide
theorem zj_98 : (Int8.ofInt (98)).toInt32 = (98 : Int32) := by decide
theorem zj_99 : (Int8.ofInt (99)).toInt32 = (99 : Int32) := by decide
theorem zj_100 : (Int8.ofInt (100)).toInt32 = (100 : Int32) := by decide
theorem zj_101 : (Int8.ofInt (101)).toInt32 = (101 : Int32) := by decide
theorem zj_102 : (Int8.ofInt (102)).toInt32 = (102 : Int32) := by decide
theorem zj_103 : (Int8.ofInt (103)).toInt32 = (103 : Int32) := by decide
theorem zj_104 : (Int8.ofInt (104)).toInt32 = (104 : Int32) := by decide
theorem zj_105 : (Int8.ofInt (105)).toInt32 = (105 : Int32) := by decide
theorem zj_106 : (Int8.ofInt (106)).toInt32 = (106 : Int32) := by decide
theorem zj_107 : (Int8.ofInt (107)).toInt32 = (107 : Int32) := by decide
theorem zj_108 : (Int8.ofInt (108)).toInt32 = (108 : Int32) := by decide
theorem zj_109 : (Int8.ofInt (109)).toInt32 = (109 : Int32) := by decide
theorem zj_110 : (Int8.ofInt (110)).toInt32 = (110 : Int32) := by decide
theorem zj_111 : (Int8.ofInt (111)).toInt32 = (111 : Int32) := by decide
theorem zj_112 : (Int8.ofInt (112)).toInt32 = (112 : Int32) := by decide
theorem zj_113 : (Int8.ofInt (113)).toInt32 = (113 : Int32) := by decide
theorem zj_114 : (Int8.ofInt (114)).toInt32 = (114 : Int32) := by decide
theorem zj_115 : (Int8.ofInt (115)).toInt32 = (115 : Int32) := by decide
theorem zj_116 : (Int8.ofInt (116)).toInt32 = (116 : Int32) := by decide
theorem zj_117 : (Int8.ofInt (117)).toInt32 = (117 : Int32) := by decide
theorem zj_118 : (Int8.ofInt (118)).toInt32 = (118 : Int32) := by decide
theorem zj_119 : (Int8.ofInt (119)).toInt32 = (119 : Int32) := by decide
theorem zj_120 : (Int8.ofInt (120)).toInt32 = (120 : Int32) := by decide
theorem zj_121 : (Int8.ofInt (121)).toInt32 = (121 : Int32) := by decide
theorem zj_122 : (Int8.ofInt (122)).toInt32 = (122 : Int32) := by decide
theorem zj_123 : (Int8.ofInt (123)).toInt32 = (123 : Int32) := by decide
theorem zj_124 : (Int8.ofInt (124)).toInt32 = (124 : Int32) := by decide
theorem zj_125 : (Int8.ofInt (125)).toInt32 = (125 : Int32) := by decide
theorem zj_126 : (Int8.ofInt (126)).toInt32 = (126 : Int32) := by decide
theorem zj_127 : (Int8.ofInt (127)).toInt32 = (127 : Int32) := by decide
