set_option maxRecDepth 100000
def f_wordOf (x0 : Int32) : Int64 := if x0 = (0 : Int32) then (f_spelt (115 : Int32) (113 : Int32) (117 : Int32) (97 : Int32) (114 : Int32) (101 : Int32) (0 : Int32)) else (if x0 = (1 : Int32) then (f_spelt (112 : Int32) (97 : Int32) (116 : Int32) (104 : Int32) (0 : Int32) (0 : Int32) (0 : Int32)) else (if x0 = (2 : Int32) then (f_spelt (107 : Int32) (105 : Int32) (110 : Int32) (100 : Int32) (0 : Int32) (0 : Int32) (0 : Int32)) else (if x0 = (3 : Int32) then (f_spelt (115 : Int32) (116 : Int32) (97 : Int32) (116 : Int32) (117 : Int32) (101 : Int32) (0 : Int32)) else (if x0 = (4 : Int32) then (f_spelt (119 : Int32) (97 : Int32) (108 : Int32) (107 : Int32) (101 : Int32) (114 : Int32) (0 : Int32)) else (if x0 = (5 : Int32) then (f_spelt (108 : Int32) (105 : Int32) (107 : Int32) (101 : Int32) (115 : Int32) (0 : Int32) (0 : Int32)) else (if x0 = (6 : Int32) then (f_spelt (97 : Int32) (114 : Int32) (114 : Int32) (101 : Int32) (97 : Int32) (114 : Int32) (115 : Int32)) else (if x0 = (7 : Int32) then (f_spelt (109 : Int32) (111 : Int32) (118 : Int32) (101 : Int32) (115 : Int32) (0 : Int32) (0 : Int32)) else (if x0 = (8 : Int32) then (f_spelt (99 : Int32) (108 : Int32) (101 : Int32) (97 : Int32) (110 : Int32) (115 : Int32) (0 : Int32)) else (if x0 = (9 : Int32) then (f_spelt (115 : Int32) (104 : Int32) (111 : Int32) (119 : Int32) (115 : Int32) (0 : Int32) (0 : Int32)) else (if x0 = (10 : Int32) then (f_spelt (108 : Int32) (101 : Int32) (110 : Int32) (100 : Int32) (115 : Int32) (0 : Int32) (0 : Int32)) else (if x0 = (11 : Int32) then (f_spelt (100 : Int32) (97 : Int32) (121 : Int32) (0 : Int32) (0 : Int32) (0 : Int32) (0 : Int32)) else (if x0 = (12 : Int32) then (f_spelt (111 : Int32) (114 : Int32) (0 : Int32) (0 : Int32) (0 : Int32) (0 : Int32) (0 : Int32)) else (if x0 = (13 : Int32) then (f_spelt (97 : Int32) (110 : Int32) (100 : Int32) (0 : Int32) (0 : Int32) (0 : Int32) (0 : Int32)) else (if x0 = (14 : Int32) then (f_spelt (110 : Int32) (111 : Int32) (116 : Int32) (0 : Int32) (0 : Int32) (0 : Int32) (0 : Int32)) else (if x0 = (15 : Int32) then (f_spelt (101 : Int32) (118 : Int32) (105 : Int32) (99 : Int32) (116 : Int32) (101 : Int32) (100 : Int32)) else (if x0 = (16 : Int32) then (f_spelt (115 : Int32) (116 : Int32) (97 : Int32) (105 : Int32) (110 : Int32) (101 : Int32) (100 : Int32)) else (if x0 = (17 : Int32) then (f_spelt (115 : Int32) (111 : Int32) (108 : Int32) (118 : Int32) (101 : Int32) (110 : Int32) (116 : Int32)) else (if x0 = (18 : Int32) then (f_spelt (111 : Int32) (102 : Int32) (0 : Int32) (0 : Int32) (0 : Int32) (0 : Int32) (0 : Int32)) else (if x0 = (19 : Int32) then (f_spelt (97 : Int32) (116 : Int32) (0 : Int32) (0 : Int32) (0 : Int32) (0 : Int32) (0 : Int32)) else (if x0 = (20 : Int32) then (f_spelt (112 : Int32) (117 : Int32) (114 : Int32) (115 : Int32) (101 : Int32) (0 : Int32) (0 : Int32)) else (if x0 = (21 : Int32) then (f_spelt (111 : Int32) (119 : Int32) (101 : Int32) (115 : Int32) (0 : Int32) (0 : Int32) (0 : Int32)) else (if x0 = (22 : Int32) then (f_spelt (103 : Int32) (108 : Int32) (97 : Int32) (110 : Int32) (99 : Int32) (101 : Int32) (115 : Int32)) else (f_spelt (110 : Int32) (117 : Int32) (109 : Int32) (98 : Int32) (101 : Int32) (114 : Int32) (0 : Int32))))))))))))))))))))))))
set_option maxHeartbeats 4000000 in
theorem w_wordOf_E {K : KT} {M : MT} {r : Int64} {σ : MS} (C : Kok K cX10_wordOf 1 RX10) (B : MB K M) (hr : (kMe K).sig.returnType = some .long) (dK : kR K = rmD 2) (hQ : KQm K M (some (.long r)) σ) (x0 : Int32) (hf : f_wordOf x0 = r) : XJ K 1 (Wm K M σ) 0 [(0, .int x0)] [] := by
  unfold f_wordOf at hf
  refine x_iload_n C dX10_wordOf_0 0 rfl ?_
  by_cases c1 : x0 = (0 : Int32)
  · have hf := pf_t c1 hf
    refine x_tableIn (off := 107) (tgt := 108) C dX10_wordOf_1 (by rw [c1]; decide) (by rw [c1]; decide) (by rw [c1]; decide) (by decide) ?_
    refine x_bipush (115 : Int32) C dX10_wordOf_108 (by decide) ?_
    refine x_bipush (113 : Int32) C dX10_wordOf_110 (by decide) ?_
    refine x_bipush (117 : Int32) C dX10_wordOf_112 (by decide) ?_
    refine x_bipush (97 : Int32) C dX10_wordOf_114 (by decide) ?_
    refine x_bipush (114 : Int32) C dX10_wordOf_116 (by decide) ?_
    refine x_bipush (101 : Int32) C dX10_wordOf_118 (by decide) ?_
    refine x_iconst (0 : Int32) C dX10_wordOf_120 (by decide) ?_
    refine mc_spelt C B dK (Nat.le_of_ble_eq_true rfl) rfl (Nat.le_of_ble_eq_true rfl) dX10_wordOf_121 ?_
    subst hf
    exact m_lret C hr hQ dX10_wordOf_124
  · have hf := pf_f c1 hf
    by_cases c2 : x0 = (1 : Int32)
    · have hf := pf_t c2 hf
      refine x_tableIn (off := 124) (tgt := 125) C dX10_wordOf_1 (by rw [c2]; decide) (by rw [c2]; decide) (by rw [c2]; decide) (by decide) ?_
      refine x_bipush (112 : Int32) C dX10_wordOf_125 (by decide) ?_
      refine x_bipush (97 : Int32) C dX10_wordOf_127 (by decide) ?_
      refine x_bipush (116 : Int32) C dX10_wordOf_129 (by decide) ?_
      refine x_bipush (104 : Int32) C dX10_wordOf_131 (by decide) ?_
      refine x_iconst (0 : Int32) C dX10_wordOf_133 (by decide) ?_
      refine x_iconst (0 : Int32) C dX10_wordOf_134 (by decide) ?_
      refine x_iconst (0 : Int32) C dX10_wordOf_135 (by decide) ?_
      refine mc_spelt C B dK (Nat.le_of_ble_eq_true rfl) rfl (Nat.le_of_ble_eq_true rfl) dX10_wordOf_136 ?_
      subst hf
      exact m_lret C hr hQ dX10_wordOf_139
    · have hf := pf_f c2 hf
      by_cases c3 : x0 = (2 : Int32)
      · have hf := pf_t c3 hf
        refine x_tableIn (off := 139) (tgt := 140) C dX10_wordOf_1 (by rw [c3]; decide) (by rw [c3]; decide) (by rw [c3]; decide) (by decide) ?_
        refine x_bipush (107 : Int32) C dX10_wordOf_140 (by decide) ?_
        refine x_bipush (105 : Int32) C dX10_wordOf_142 (by decide) ?_
        refine x_bipush (110 : Int32) C dX10_wordOf_144 (by decide) ?_
        refine x_bipush (100 : Int32) C dX10_wordOf_146 (by decide) ?_
        refine x_iconst (0 : Int32) C dX10_wordOf_148 (by decide) ?_
        refine x_iconst (0 : Int32) C dX10_wordOf_149 (by decide) ?_
        refine x_iconst (0 : Int32) C dX10_wordOf_150 (by decide) ?_
        refine mc_spelt C B dK (Nat.le_of_ble_eq_true rfl) rfl (Nat.le_of_ble_eq_true rfl) dX10_wordOf_151 ?_
        subst hf
        exact m_lret C hr hQ dX10_wordOf_154
      · have hf := pf_f c3 hf
        by_cases c4 : x0 = (3 : Int32)
        · have hf := pf_t c4 hf
          refine x_tableIn (off := 154) (tgt := 155) C dX10_wordOf_1 (by rw [c4]; decide) (by rw [c4]; decide) (by rw [c4]; decide) (by decide) ?_
          refine x_bipush (115 : Int32) C dX10_wordOf_155 (by decide) ?_
          refine x_bipush (116 : Int32) C dX10_wordOf_157 (by decide) ?_
          refine x_bipush (97 : Int32) C dX10_wordOf_159 (by decide) ?_
          refine x_bipush (116 : Int32) C dX10_wordOf_161 (by decide) ?_
          refine x_bipush (117 : Int32) C dX10_wordOf_163 (by decide) ?_
          refine x_bipush (101 : Int32) C dX10_wordOf_165 (by decide) ?_
          refine x_iconst (0 : Int32) C dX10_wordOf_167 (by decide) ?_
          refine mc_spelt C B dK (Nat.le_of_ble_eq_true rfl) rfl (Nat.le_of_ble_eq_true rfl) dX10_wordOf_168 ?_
          subst hf
          exact m_lret C hr hQ dX10_wordOf_171
        · have hf := pf_f c4 hf
          by_cases c5 : x0 = (4 : Int32)
          · have hf := pf_t c5 hf
            refine x_tableIn (off := 171) (tgt := 172) C dX10_wordOf_1 (by rw [c5]; decide) (by rw [c5]; decide) (by rw [c5]; decide) (by decide) ?_
            refine x_bipush (119 : Int32) C dX10_wordOf_172 (by decide) ?_
            refine x_bipush (97 : Int32) C dX10_wordOf_174 (by decide) ?_
            refine x_bipush (108 : Int32) C dX10_wordOf_176 (by decide) ?_
            refine x_bipush (107 : Int32) C dX10_wordOf_178 (by decide) ?_
            refine x_bipush (101 : Int32) C dX10_wordOf_180 (by decide) ?_
            refine x_bipush (114 : Int32) C dX10_wordOf_182 (by decide) ?_
            refine x_iconst (0 : Int32) C dX10_wordOf_184 (by decide) ?_
            refine mc_spelt C B dK (Nat.le_of_ble_eq_true rfl) rfl (Nat.le_of_ble_eq_true rfl) dX10_wordOf_185 ?_
            subst hf
            exact m_lret C hr hQ dX10_wordOf_188
          · have hf := pf_f c5 hf
            by_cases c6 : x0 = (5 : Int32)
            · have hf := pf_t c6 hf
              refine x_tableIn (off := 188) (tgt := 189) C dX10_wordOf_1 (by rw [c6]; decide) (by rw [c6]; decide) (by rw [c6]; decide) (by decide) ?_
              refine x_bipush (108 : Int32) C dX10_wordOf_189 (by decide) ?_
              refine x_bipush (105 : Int32) C dX10_wordOf_191 (by decide) ?_
              refine x_bipush (107 : Int32) C dX10_wordOf_193 (by decide) ?_
              refine x_bipush (101 : Int32) C dX10_wordOf_195 (by decide) ?_
              refine x_bipush (115 : Int32) C dX10_wordOf_197 (by decide) ?_
              refine x_iconst (0 : Int32) C dX10_wordOf_199 (by decide) ?_
              refine x_iconst (0 : Int32) C dX10_wordOf_200 (by decide) ?_
              refine mc_spelt C B dK (Nat.le_of_ble_eq_true rfl) rfl (Nat.le_of_ble_eq_true rfl) dX10_wordOf_201 ?_
              subst hf
              exact m_lret C hr hQ dX10_wordOf_204
            · have hf := pf_f c6 hf
              by_cases c7 : x0 = (6 : Int32)
              · have hf := pf_t c7 hf
                refine x_tableIn (off := 204) (tgt := 205) C dX10_wordOf_1 (by rw [c7]; decide) (by rw [c7]; decide) (by rw [c7]; decide) (by decide) ?_
                refine x_bipush (97 : Int32) C dX10_wordOf_205 (by decide) ?_
                refine x_bipush (114 : Int32) C dX10_wordOf_207 (by decide) ?_
                refine x_bipush (114 : Int32) C dX10_wordOf_209 (by decide) ?_
                refine x_bipush (101 : Int32) C dX10_wordOf_211 (by decide) ?_
                refine x_bipush (97 : Int32) C dX10_wordOf_213 (by decide) ?_
                refine x_bipush (114 : Int32) C dX10_wordOf_215 (by decide) ?_
                refine x_bipush (115 : Int32) C dX10_wordOf_217 (by decide) ?_
                refine mc_spelt C B dK (Nat.le_of_ble_eq_true rfl) rfl (Nat.le_of_ble_eq_true rfl) dX10_wordOf_219 ?_
                subst hf
                exact m_lret C hr hQ dX10_wordOf_222
              · have hf := pf_f c7 hf
                by_cases c8 : x0 = (7 : Int32)
                · have hf := pf_t c8 hf
                  refine x_tableIn (off := 222) (tgt := 223) C dX10_wordOf_1 (by rw [c8]; decide) (by rw [c8]; decide) (by rw [c8]; decide) (by decide) ?_
                  refine x_bipush (109 : Int32) C dX10_wordOf_223 (by decide) ?_
                  refine x_bipush (111 : Int32) C dX10_wordOf_225 (by decide) ?_
                  refine x_bipush (118 : Int32) C dX10_wordOf_227 (by decide) ?_
                  refine x_bipush (101 : Int32) C dX10_wordOf_229 (by decide) ?_
                  refine x_bipush (115 : Int32) C dX10_wordOf_231 (by decide) ?_
                  refine x_iconst (0 : Int32) C dX10_wordOf_233 (by decide) ?_
                  refine x_iconst (0 : Int32) C dX10_wordOf_234 (by decide) ?_
                  refine mc_spelt C B dK (Nat.le_of_ble_eq_true rfl) rfl (Nat.le_of_ble_eq_true rfl) dX10_wordOf_235 ?_
                  subst hf
                  exact m_lret C hr hQ dX10_wordOf_238
                · have hf := pf_f c8 hf
                  by_cases c9 : x0 = (8 : Int32)
                  · have hf := pf_t c9 hf
                    refine x_tableIn (off := 238) (tgt := 239) C dX10_wordOf_1 (by rw [c9]; decide) (by rw [c9]; decide) (by rw [c9]; decide) (by decide) ?_
                    refine x_bipush (99 : Int32) C dX10_wordOf_239 (by decide) ?_
                    refine x_bipush (108 : Int32) C dX10_wordOf_241 (by decide) ?_
                    refine x_bipush (101 : Int32) C dX10_wordOf_243 (by decide) ?_
                    refine x_bipush (97 : Int32) C dX10_wordOf_245 (by decide) ?_
                    refine x_bipush (110 : Int32) C dX10_wordOf_247 (by decide) ?_
                    refine x_bipush (115 : Int32) C dX10_wordOf_249 (by decide) ?_
                    refine x_iconst (0 : Int32) C dX10_wordOf_251 (by decide) ?_
                    refine mc_spelt C B dK (Nat.le_of_ble_eq_true rfl) rfl (Nat.le_of_ble_eq_true rfl) dX10_wordOf_252 ?_
                    subst hf
                    exact m_lret C hr hQ dX10_wordOf_255
                  · have hf := pf_f c9 hf
                    by_cases c10 : x0 = (9 : Int32)
                    · have hf := pf_t c10 hf
                      refine x_tableIn (off := 255) (tgt := 256) C dX10_wordOf_1 (by rw [c10]; decide) (by rw [c10]; decide) (by rw [c10]; decide) (by decide) ?_
                      refine x_bipush (115 : Int32) C dX10_wordOf_256 (by decide) ?_
                      refine x_bipush (104 : Int32) C dX10_wordOf_258 (by decide) ?_
                      refine x_bipush (111 : Int32) C dX10_wordOf_260 (by decide) ?_
                      refine x_bipush (119 : Int32) C dX10_wordOf_262 (by decide) ?_
                      refine x_bipush (115 : Int32) C dX10_wordOf_264 (by decide) ?_
                      refine x_iconst (0 : Int32) C dX10_wordOf_266 (by decide) ?_
                      refine x_iconst (0 : Int32) C dX10_wordOf_267 (by decide) ?_
                      refine mc_spelt C B dK (Nat.le_of_ble_eq_true rfl) rfl (Nat.le_of_ble_eq_true rfl) dX10_wordOf_268 ?_
                      subst hf
                      exact m_lret C hr hQ dX10_wordOf_271
                    · have hf := pf_f c10 hf
                      by_cases c11 : x0 = (10 : Int32)
                      · have hf := pf_t c11 hf
                        refine x_tableIn (off := 271) (tgt := 272) C dX10_wordOf_1 (by rw [c11]; decide) (by rw [c11]; decide) (by rw [c11]; decide) (by decide) ?_
                        refine x_bipush (108 : Int32) C dX10_wordOf_272 (by decide) ?_
                        refine x_bipush (101 : Int32) C dX10_wordOf_274 (by decide) ?_
                        refine x_bipush (110 : Int32) C dX10_wordOf_276 (by decide) ?_
                        refine x_bipush (100 : Int32) C dX10_wordOf_278 (by decide) ?_
                        refine x_bipush (115 : Int32) C dX10_wordOf_280 (by decide) ?_
                        refine x_iconst (0 : Int32) C dX10_wordOf_282 (by decide) ?_
                        refine x_iconst (0 : Int32) C dX10_wordOf_283 (by decide) ?_
                        refine mc_spelt C B dK (Nat.le_of_ble_eq_true rfl) rfl (Nat.le_of_ble_eq_true rfl) dX10_wordOf_284 ?_
                        subst hf
                        exact m_lret C hr hQ dX10_wordOf_287
                      · have hf := pf_f c11 hf
                        by_cases c12 : x0 = (11 : Int32)
                        · have hf := pf_t c12 hf
                          refine x_tableIn (off := 287) (tgt := 288) C dX10_wordOf_1 (by rw [c12]; decide) (by rw [c12]; decide) (by rw [c12]; decide) (by decide) ?_
                          refine x_bipush (100 : Int32) C dX10_wordOf_288 (by decide) ?_
                          refine x_bipush (97 : Int32) C dX10_wordOf_290 (by decide) ?_
                          refine x_bipush (121 : Int32) C dX10_wordOf_292 (by decide) ?_
                          refine x_iconst (0 : Int32) C dX10_wordOf_294 (by decide) ?_
                          refine x_iconst (0 : Int32) C dX10_wordOf_295 (by decide) ?_
                          refine x_iconst (0 : Int32) C dX10_wordOf_296 (by decide) ?_
                          refine x_iconst (0 : Int32) C dX10_wordOf_297 (by decide) ?_
                          refine mc_spelt C B dK (Nat.le_of_ble_eq_true rfl) rfl (Nat.le_of_ble_eq_true rfl) dX10_wordOf_298 ?_
                          subst hf
                          exact m_lret C hr hQ dX10_wordOf_301
                        · have hf := pf_f c12 hf
                          by_cases c13 : x0 = (12 : Int32)
                          · have hf := pf_t c13 hf
                            refine x_tableIn (off := 301) (tgt := 302) C dX10_wordOf_1 (by rw [c13]; decide) (by rw [c13]; decide) (by rw [c13]; decide) (by decide) ?_
                            refine x_bipush (111 : Int32) C dX10_wordOf_302 (by decide) ?_
                            refine x_bipush (114 : Int32) C dX10_wordOf_304 (by decide) ?_
                            refine x_iconst (0 : Int32) C dX10_wordOf_306 (by decide) ?_
                            refine x_iconst (0 : Int32) C dX10_wordOf_307 (by decide) ?_
                            refine x_iconst (0 : Int32) C dX10_wordOf_308 (by decide) ?_
                            refine x_iconst (0 : Int32) C dX10_wordOf_309 (by decide) ?_
                            refine x_iconst (0 : Int32) C dX10_wordOf_310 (by decide) ?_
                            refine mc_spelt C B dK (Nat.le_of_ble_eq_true rfl) rfl (Nat.le_of_ble_eq_true rfl) dX10_wordOf_311 ?_
                            subst hf
                            exact m_lret C hr hQ dX10_wordOf_314
                          · have hf := pf_f c13 hf
                            by_cases c14 : x0 = (13 : Int32)
                            · have hf := pf_t c14 hf
                              refine x_tableIn (off := 314) (tgt := 315) C dX10_wordOf_1 (by rw [c14]; decide) (by rw [c14]; decide) (by rw [c14]; decide) (by decide) ?_
                              refine x_bipush (97 : Int32) C dX10_wordOf_315 (by decide) ?_
                              refine x_bipush (110 : Int32) C dX10_wordOf_317 (by decide) ?_
                              refine x_bipush (100 : Int32) C dX10_wordOf_319 (by decide) ?_
                              refine x_iconst (0 : Int32) C dX10_wordOf_321 (by decide) ?_
                              refine x_iconst (0 : Int32) C dX10_wordOf_322 (by decide) ?_
                              refine x_iconst (0 : Int32) C dX10_wordOf_323 (by decide) ?_
                              refine x_iconst (0 : Int32) C dX10_wordOf_324 (by decide) ?_
                              refine mc_spelt C B dK (Nat.le_of_ble_eq_true rfl) rfl (Nat.le_of_ble_eq_true rfl) dX10_wordOf_325 ?_
                              subst hf
                              exact m_lret C hr hQ dX10_wordOf_328
                            · have hf := pf_f c14 hf
                              by_cases c15 : x0 = (14 : Int32)
                              · have hf := pf_t c15 hf
                                refine x_tableIn (off := 328) (tgt := 329) C dX10_wordOf_1 (by rw [c15]; decide) (by rw [c15]; decide) (by rw [c15]; decide) (by decide) ?_
                                refine x_bipush (110 : Int32) C dX10_wordOf_329 (by decide) ?_
                                refine x_bipush (111 : Int32) C dX10_wordOf_331 (by decide) ?_
                                refine x_bipush (116 : Int32) C dX10_wordOf_333 (by decide) ?_
                                refine x_iconst (0 : Int32) C dX10_wordOf_335 (by decide) ?_
                                refine x_iconst (0 : Int32) C dX10_wordOf_336 (by decide) ?_
                                refine x_iconst (0 : Int32) C dX10_wordOf_337 (by decide) ?_
                                refine x_iconst (0 : Int32) C dX10_wordOf_338 (by decide) ?_
                                refine mc_spelt C B dK (Nat.le_of_ble_eq_true rfl) rfl (Nat.le_of_ble_eq_true rfl) dX10_wordOf_339 ?_
                                subst hf
                                exact m_lret C hr hQ dX10_wordOf_342
                              · have hf := pf_f c15 hf
                                by_cases c16 : x0 = (15 : Int32)
                                · have hf := pf_t c16 hf
                                  refine x_tableIn (off := 342) (tgt := 343) C dX10_wordOf_1 (by rw [c16]; decide) (by rw [c16]; decide) (by rw [c16]; decide) (by decide) ?_
                                  refine x_bipush (101 : Int32) C dX10_wordOf_343 (by decide) ?_
                                  refine x_bipush (118 : Int32) C dX10_wordOf_345 (by decide) ?_
                                  refine x_bipush (105 : Int32) C dX10_wordOf_347 (by decide) ?_
                                  refine x_bipush (99 : Int32) C dX10_wordOf_349 (by decide) ?_
                                  refine x_bipush (116 : Int32) C dX10_wordOf_351 (by decide) ?_
                                  refine x_bipush (101 : Int32) C dX10_wordOf_353 (by decide) ?_
                                  refine x_bipush (100 : Int32) C dX10_wordOf_355 (by decide) ?_
                                  refine mc_spelt C B dK (Nat.le_of_ble_eq_true rfl) rfl (Nat.le_of_ble_eq_true rfl) dX10_wordOf_357 ?_
                                  subst hf
                                  exact m_lret C hr hQ dX10_wordOf_360
                                · have hf := pf_f c16 hf
                                  by_cases c17 : x0 = (16 : Int32)
                                  · have hf := pf_t c17 hf
                                    refine x_tableIn (off := 360) (tgt := 361) C dX10_wordOf_1 (by rw [c17]; decide) (by rw [c17]; decide) (by rw [c17]; decide) (by decide) ?_
                                    refine x_bipush (115 : Int32) C dX10_wordOf_361 (by decide) ?_
                                    refine x_bipush (116 : Int32) C dX10_wordOf_363 (by decide) ?_
                                    refine x_bipush (97 : Int32) C dX10_wordOf_365 (by decide) ?_
                                    refine x_bipush (105 : Int32) C dX10_wordOf_367 (by decide) ?_
                                    refine x_bipush (110 : Int32) C dX10_wordOf_369 (by decide) ?_
                                    refine x_bipush (101 : Int32) C dX10_wordOf_371 (by decide) ?_
                                    refine x_bipush (100 : Int32) C dX10_wordOf_373 (by decide) ?_
                                    refine mc_spelt C B dK (Nat.le_of_ble_eq_true rfl) rfl (Nat.le_of_ble_eq_true rfl) dX10_wordOf_375 ?_
                                    subst hf
                                    exact m_lret C hr hQ dX10_wordOf_378
                                  · have hf := pf_f c17 hf
                                    by_cases c18 : x0 = (17 : Int32)
                                    · have hf := pf_t c18 hf
                                      refine x_tableIn (off := 378) (tgt := 379) C dX10_wordOf_1 (by rw [c18]; decide) (by rw [c18]; decide) (by rw [c18]; decide) (by decide) ?_
                                      refine x_bipush (115 : Int32) C dX10_wordOf_379 (by decide) ?_
                                      refine x_bipush (111 : Int32) C dX10_wordOf_381 (by decide) ?_
                                      refine x_bipush (108 : Int32) C dX10_wordOf_383 (by decide) ?_
                                      refine x_bipush (118 : Int32) C dX10_wordOf_385 (by decide) ?_
                                      refine x_bipush (101 : Int32) C dX10_wordOf_387 (by decide) ?_
                                      refine x_bipush (110 : Int32) C dX10_wordOf_389 (by decide) ?_
                                      refine x_bipush (116 : Int32) C dX10_wordOf_391 (by decide) ?_
                                      refine mc_spelt C B dK (Nat.le_of_ble_eq_true rfl) rfl (Nat.le_of_ble_eq_true rfl) dX10_wordOf_393 ?_
                                      subst hf
                                      exact m_lret C hr hQ dX10_wordOf_396
                                    · have hf := pf_f c18 hf
                                      by_cases c19 : x0 = (18 : Int32)
                                      · have hf := pf_t c19 hf
                                        refine x_tableIn (off := 396) (tgt := 397) C dX10_wordOf_1 (by rw [c19]; decide) (by rw [c19]; decide) (by rw [c19]; decide) (by decide) ?_
                                        refine x_bipush (111 : Int32) C dX10_wordOf_397 (by decide) ?_
                                        refine x_bipush (102 : Int32) C dX10_wordOf_399 (by decide) ?_
                                        refine x_iconst (0 : Int32) C dX10_wordOf_401 (by decide) ?_
                                        refine x_iconst (0 : Int32) C dX10_wordOf_402 (by decide) ?_
                                        refine x_iconst (0 : Int32) C dX10_wordOf_403 (by decide) ?_
                                        refine x_iconst (0 : Int32) C dX10_wordOf_404 (by decide) ?_
                                        refine x_iconst (0 : Int32) C dX10_wordOf_405 (by decide) ?_
                                        refine mc_spelt C B dK (Nat.le_of_ble_eq_true rfl) rfl (Nat.le_of_ble_eq_true rfl) dX10_wordOf_406 ?_
                                        subst hf
                                        exact m_lret C hr hQ dX10_wordOf_409
                                      · have hf := pf_f c19 hf
                                        by_cases c20 : x0 = (19 : Int32)
                                        · have hf := pf_t c20 hf
                                          refine x_tableIn (off := 409) (tgt := 410) C dX10_wordOf_1 (by rw [c20]; decide) (by rw [c20]; decide) (by rw [c20]; decide) (by decide) ?_
                                          refine x_bipush (97 : Int32) C dX10_wordOf_410 (by decide) ?_
                                          refine x_bipush (116 : Int32) C dX10_wordOf_412 (by decide) ?_
                                          refine x_iconst (0 : Int32) C dX10_wordOf_414 (by decide) ?_
                                          refine x_iconst (0 : Int32) C dX10_wordOf_415 (by decide) ?_
                                          refine x_iconst (0 : Int32) C dX10_wordOf_416 (by decide) ?_
                                          refine x_iconst (0 : Int32) C dX10_wordOf_417 (by decide) ?_
                                          refine x_iconst (0 : Int32) C dX10_wordOf_418 (by decide) ?_
                                          refine mc_spelt C B dK (Nat.le_of_ble_eq_true rfl) rfl (Nat.le_of_ble_eq_true rfl) dX10_wordOf_419 ?_
                                          subst hf
                                          exact m_lret C hr hQ dX10_wordOf_422
                                        · have hf := pf_f c20 hf
                                          by_cases c21 : x0 = (20 : Int32)
                                          · have hf := pf_t c21 hf
                                            refine x_tableIn (off := 422) (tgt := 423) C dX10_wordOf_1 (by rw [c21]; decide) (by rw [c21]; decide) (by rw [c21]; decide) (by decide) ?_
                                            refine x_bipush (112 : Int32) C dX10_wordOf_423 (by decide) ?_
                                            refine x_bipush (117 : Int32) C dX10_wordOf_425 (by decide) ?_
                                            refine x_bipush (114 : Int32) C dX10_wordOf_427 (by decide) ?_
                                            refine x_bipush (115 : Int32) C dX10_wordOf_429 (by decide) ?_
                                            refine x_bipush (101 : Int32) C dX10_wordOf_431 (by decide) ?_
                                            refine x_iconst (0 : Int32) C dX10_wordOf_433 (by decide) ?_
                                            refine x_iconst (0 : Int32) C dX10_wordOf_434 (by decide) ?_
                                            refine mc_spelt C B dK (Nat.le_of_ble_eq_true rfl) rfl (Nat.le_of_ble_eq_true rfl) dX10_wordOf_435 ?_
                                            subst hf
                                            exact m_lret C hr hQ dX10_wordOf_438
                                          · have hf := pf_f c21 hf
                                            by_cases c22 : x0 = (21 : Int32)
                                            · have hf := pf_t c22 hf
                                              refine x_tableIn (off := 438) (tgt := 439) C dX10_wordOf_1 (by rw [c22]; decide) (by rw [c22]; decide) (by rw [c22]; decide) (by decide) ?_
                                              refine x_bipush (111 : Int32) C dX10_wordOf_439 (by decide) ?_
                                              refine x_bipush (119 : Int32) C dX10_wordOf_441 (by decide) ?_
                                              refine x_bipush (101 : Int32) C dX10_wordOf_443 (by decide) ?_
                                              refine x_bipush (115 : Int32) C dX10_wordOf_445 (by decide) ?_
                                              refine x_iconst (0 : Int32) C dX10_wordOf_447 (by decide) ?_
                                              refine x_iconst (0 : Int32) C dX10_wordOf_448 (by decide) ?_
                                              refine x_iconst (0 : Int32) C dX10_wordOf_449 (by decide) ?_
                                              refine mc_spelt C B dK (Nat.le_of_ble_eq_true rfl) rfl (Nat.le_of_ble_eq_true rfl) dX10_wordOf_450 ?_
                                              subst hf
                                              exact m_lret C hr hQ dX10_wordOf_453
                                            · have hf := pf_f c22 hf
                                              by_cases c23 : x0 = (22 : Int32)
                                              · have hf := pf_t c23 hf
                                                refine x_tableIn (off := 453) (tgt := 454) C dX10_wordOf_1 (by rw [c23]; decide) (by rw [c23]; decide) (by rw [c23]; decide) (by decide) ?_
                                                refine x_bipush (103 : Int32) C dX10_wordOf_454 (by decide) ?_
                                                refine x_bipush (108 : Int32) C dX10_wordOf_456 (by decide) ?_
                                                refine x_bipush (97 : Int32) C dX10_wordOf_458 (by decide) ?_
                                                refine x_bipush (110 : Int32) C dX10_wordOf_460 (by decide) ?_
                                                refine x_bipush (99 : Int32) C dX10_wordOf_462 (by decide) ?_
                                                refine x_bipush (101 : Int32) C dX10_wordOf_464 (by decide) ?_
                                                refine x_bipush (115 : Int32) C dX10_wordOf_466 (by decide) ?_
                                                refine mc_spelt C B dK (Nat.le_of_ble_eq_true rfl) rfl (Nat.le_of_ble_eq_true rfl) dX10_wordOf_468 ?_
                                                subst hf
                                                exact m_lret C hr hQ dX10_wordOf_471
                                              · have hf := pf_f c23 hf
                                                refine x_tableOut (tgt := 472) C dX10_wordOf_1 (by have := lv_neT c1 (show (0 : Int32).toInt = (0 : Int) by decide); have := lv_neT c2 (show (1 : Int32).toInt = (1 : Int) by decide); have := lv_neT c3 (show (2 : Int32).toInt = (2 : Int) by decide); have := lv_neT c4 (show (3 : Int32).toInt = (3 : Int) by decide); have := lv_neT c5 (show (4 : Int32).toInt = (4 : Int) by decide); have := lv_neT c6 (show (5 : Int32).toInt = (5 : Int) by decide); have := lv_neT c7 (show (6 : Int32).toInt = (6 : Int) by decide); have := lv_neT c8 (show (7 : Int32).toInt = (7 : Int) by decide); have := lv_neT c9 (show (8 : Int32).toInt = (8 : Int) by decide); have := lv_neT c10 (show (9 : Int32).toInt = (9 : Int) by decide); have := lv_neT c11 (show (10 : Int32).toInt = (10 : Int) by decide); have := lv_neT c12 (show (11 : Int32).toInt = (11 : Int) by decide); have := lv_neT c13 (show (12 : Int32).toInt = (12 : Int) by decide); have := lv_neT c14 (show (13 : Int32).toInt = (13 : Int) by decide); have := lv_neT c15 (show (14 : Int32).toInt = (14 : Int) by decide); have := lv_neT c16 (show (15 : Int32).toInt = (15 : Int) by decide); have := lv_neT c17 (show (16 : Int32).toInt = (16 : Int) by decide); have := lv_neT c18 (show (17 : Int32).toInt = (17 : Int) by decide); have := lv_neT c19 (show (18 : Int32).toInt = (18 : Int) by decide); have := lv_neT c20 (show (19 : Int32).toInt = (19 : Int) by decide); have := lv_neT c21 (show (20 : Int32).toInt = (20 : Int) by decide); have := lv_neT c22 (show (21 : Int32).toInt = (21 : Int) by decide); have := lv_neT c23 (show (22 : Int32).toInt = (22 : Int) by decide); omega) (by decide) ?_
                                                refine x_bipush (110 : Int32) C dX10_wordOf_472 (by decide) ?_
                                                refine x_bipush (117 : Int32) C dX10_wordOf_474 (by decide) ?_
                                                refine x_bipush (109 : Int32) C dX10_wordOf_476 (by decide) ?_
                                                refine x_bipush (98 : Int32) C dX10_wordOf_478 (by decide) ?_
                                                refine x_bipush (101 : Int32) C dX10_wordOf_480 (by decide) ?_
                                                refine x_bipush (114 : Int32) C dX10_wordOf_482 (by decide) ?_
                                                refine x_iconst (0 : Int32) C dX10_wordOf_484 (by decide) ?_
                                                refine mc_spelt C B dK (Nat.le_of_ble_eq_true rfl) rfl (Nat.le_of_ble_eq_true rfl) dX10_wordOf_485 ?_
                                                subst hf
                                                exact m_lret C hr hQ dX10_wordOf_488
theorem met_wordOf {M : MT} {v : Int64} {σ : MS} {x0 : Int32} {l : Launch} (hc : (mCl M)[mCi M]? = some (RX10, TX10, 61)) (hf : f_wordOf x0 = v) : Met l yX10_wordOf (ws_ yX10_wordOf cX10_wordOf 1 (some .long)) (rmD 2) (va_Pc [.int x0] (MU M σ)) (Qm M (some (.long v)) σ) 0 0 (mAd M) :=
  m_met [.int x0] (by decide) rfl (Nat.le_of_ble_eq_true rfl) hc (fun K hl hR hr C B hQ => w_wordOf_E C B hr hR hQ _ hf)
theorem mc_wordOf {K : KT} {M : MT} {cc : ByteArray} {nL pc dk : Nat} {L : List (Nat × Value)} {rest : List Value} {σ : MS} {v : Int64} {x0 : Int32} (C : Kok K cc nL RX10) (B : MB K M) (dK : kR K = rmD dk) (hd : 2 + 1 ≤ dk) (hf : f_wordOf x0 = v) (hW : (rest.map fun v => v.category).sum ≤ 8) (dd : decode cc pc = .ok (.invokestatic 62, 3)) (kk2 : XJ K nL (Wm K M σ) (pc + 3) L ((.long v) :: rest)) : XJ K nL (Wm K M σ) pc L (.int x0 :: rest) :=
  m_callS (rest := rest) (v := (some (.long v))) [.int x0] 1 rfl C B dK hd (Nat.le_of_ble_eq_true rfl) (lw_S q2017 q2018 q133 q2019) (by decide +kernel) (met_wordOf B.2 hf) rfl hW dd kk2
def f_isWord (σ : MS) (x1 : Int32) : Int32 := if (gi σ 7) = (2 : Int32) then (if (lg_cmp (gl σ 12) (f_wordOf x1)) = 0 then ((1 : Int32)) else ((0 : Int32))) else ((0 : Int32))
set_option maxHeartbeats 4000000 in
theorem w_isWord_E {K : KT} {M : MT} {r : Int32} (σ : MS) (C : Kok K cX10_isWord 2 RX10) (B : MB K M) (hr : (kMe K).sig.returnType = some .boolean) (dK : kR K = rmD 3) (hQ : KQm K M (some (.int r)) σ) (x1 : Int32) (hf : f_isWord σ x1 = r) : XJ K 2 (Wm K M σ) 0 [(0, .ref (mO M)), (1, .int x1)] [] := by
  unfold f_isWord at hf
  refine x_aload_n C dX10_isWord_0 0 rfl ?_
  refine mg_7 C B dX10_isWord_1 ?_
  refine x_iconst (2 : Int32) C dX10_isWord_4 (by decide) ?_
  refine x_icmp_ne (tgt := 24) C dX10_isWord_5 (by decide) (fun c1 => ?_) (fun c1 => ?_)
  · have hf := pf_f c1 hf
    refine x_iconst (0 : Int32) C dX10_isWord_24 (by decide) ?_
    subst hf
    exact m_zret C hr (Or.inl rfl) hQ dX10_isWord_25
  · have hf := pf_t c1 hf
    refine x_aload_n C dX10_isWord_8 0 rfl ?_
    refine mg_12 C B dX10_isWord_9 ?_
    refine x_iload_n C dX10_isWord_12 1 rfl ?_
    refine mc_wordOf C B dK (Nat.le_of_ble_eq_true rfl) rfl (Nat.le_of_ble_eq_true rfl) dX10_isWord_13 ?_
    refine x_lcmp C dX10_isWord_16 ?_
    refine x_if_ne (tgt := 24) C dX10_isWord_17 (by decide) (fun c2 => ?_) (fun c2 => ?_)
    · have hf := pf_f c2 hf
      refine x_iconst (0 : Int32) C dX10_isWord_24 (by decide) ?_
      subst hf
      exact m_zret C hr (Or.inl rfl) hQ dX10_isWord_25
    · have hf := pf_t c2 hf
      refine x_iconst (1 : Int32) C dX10_isWord_20 (by decide) ?_
      refine x_goto (tgt := 25) C dX10_isWord_21 (by decide) ?_
      subst hf
      exact m_zret C hr (Or.inr rfl) hQ dX10_isWord_25
theorem bz_isWord_E {r : Int32} {σ : MS} {x1 : Int32} (hf : f_isWord σ x1 = r) : r = 0 ∨ r = 1 := by
  unfold f_isWord at hf
  by_cases c1 : (gi σ 7) = (2 : Int32)
  · have hf := pf_t c1 hf
    by_cases c2 : (lg_cmp (gl σ 12) (f_wordOf x1)) = 0
    · have hf := pf_t c2 hf
      subst hf
      exact (Or.inr rfl)
    · have hf := pf_f c2 hf
      subst hf
      exact (Or.inl rfl)
  · have hf := pf_f c1 hf
    subst hf
    exact (Or.inl rfl)
theorem met_isWord {M : MT} {v : Int32} {σ : MS} {x1 : Int32} {l : Launch} (hc : (mCl M)[mCi M]? = some (RX10, TX10, 61)) (hf : f_isWord σ x1 = v) : Met l yX10_isWord (ws_ yX10_isWord cX10_isWord 2 (some .boolean)) (rmD 3) (va_Pc [.ref (mO M), .int x1] (MU M σ)) (Qm M (some (.int v)) σ) 0 0 (mAd M) :=
  m_met [.ref (mO M), .int x1] (by decide) rfl (Nat.le_of_ble_eq_true rfl) hc (fun K hl hR hr C B hQ => w_isWord_E _ C B hr hR hQ _ hf)
theorem mc_isWord {K : KT} {M : MT} {cc : ByteArray} {nL pc dk : Nat} {L : List (Nat × Value)} {rest : List Value} {σ : MS} {v : Int32} {x1 : Int32} (C : Kok K cc nL RX10) (B : MB K M) (dK : kR K = rmD dk) (hd : 3 + 1 ≤ dk) (hf : f_isWord σ x1 = v) (hW : (rest.map fun v => v.category).sum ≤ 8) (dd : decode cc pc = .ok (.invokevirtual 224, 3)) (kk2 : XJ K nL (Wm K M σ) (pc + 3) L ((.int v) :: rest)) : XJ K nL (Wm K M σ) pc L (.int x1 :: .ref (mO M) :: rest) :=
  m_callV (rest := rest) (v := (some (.int v))) [.int x1] 1 rfl C B dK hd (Nat.le_of_ble_eq_true rfl) (lw_V q2013 q2015 qs46 q133 q2016) (by decide +kernel) (met_isWord B.2 hf) rfl hW dd kk2
def f_put (x1 : Int32) (x2 : Int32) (σ : MS) : Option (Int32 × MS) := if x2 = 0 then (some (x2, σ)) else (if inb x1 198 = true then ev (sa σ 15 (Int32.toNatClampNeg x1) (gi σ 13)) fun s3 => some (x2, s3) else none)
set_option maxHeartbeats 4000000 in
theorem w_put_E {K : KT} {M : MT} {r : Int32} {τ : MS} (C : Kok K cX10_put 3 RX10) (B : MB K M) (hr : (kMe K).sig.returnType = some .boolean) (dK : kR K = rmD 1) (hQ : KQm K M (some (.int r)) τ) (x1 : Int32) (x2 : Int32) (hb_x2 : x2 = 0 ∨ x2 = 1) (σ : MS) (hf : f_put x1 x2 σ = some (r, τ)) : XJ K 3 (Wm K M σ) 0 [(0, .ref (mO M)), (1, .int x1), (2, .int x2)] [] := by
  unfold f_put at hf
  refine x_iload_n C dX10_put_0 2 rfl ?_
  refine x_if_eq (tgt := 14) C dX10_put_1 (by decide) (fun c1 => ?_) (fun c1 => ?_)
  · have hf := pf_t c1 hf
    refine x_iload_n C dX10_put_14 2 rfl ?_
    obtain ⟨rfl, rfl⟩ := Prod.mk.inj (Option.some.inj hf)
    exact m_zret C hr hb_x2 hQ dX10_put_15
  · have hf := pf_f c1 hf
    refine x_aload_n C dX10_put_4 0 rfl ?_
    refine mg_15 C B dX10_put_5 ?_
    refine x_iload_n C dX10_put_8 1 rfl ?_
    refine x_aload_n C dX10_put_9 0 rfl ?_
    refine mg_13 C B dX10_put_10 ?_
    obtain ⟨h2, hf⟩ := pf_in hf
    refine ms_15 C B h2 dX10_put_13 ?_
    obtain ⟨s3, es3, hf⟩ := pf_e hf
    refine m_ren es3 ?_
    refine x_iload_n C dX10_put_14 2 rfl ?_
    obtain ⟨rfl, rfl⟩ := Prod.mk.inj (Option.some.inj hf)
    exact m_zret C hr hb_x2 hQ dX10_put_15
theorem bz_put_E {r : Int32} {τ : MS} {x1 : Int32} {x2 : Int32} (hb_x2 : x2 = 0 ∨ x2 = 1) {σ : MS} (hf : f_put x1 x2 σ = some (r, τ)) : r = 0 ∨ r = 1 := by
  unfold f_put at hf
  by_cases c1 : x2 = 0
  · have hf := pf_t c1 hf
    obtain ⟨rfl, rfl⟩ := Prod.mk.inj (Option.some.inj hf)
    exact hb_x2
  · have hf := pf_f c1 hf
    obtain ⟨h2, hf⟩ := pf_in hf
    obtain ⟨s3, es3, hf⟩ := pf_e hf
    obtain ⟨rfl, rfl⟩ := Prod.mk.inj (Option.some.inj hf)
    exact hb_x2
theorem met_put {M : MT} {v : (Int32 × MS)} {σ : MS} {x1 : Int32} {x2 : Int32} {l : Launch} (hc : (mCl M)[mCi M]? = some (RX10, TX10, 61)) (hb_x2 : x2 = 0 ∨ x2 = 1) (hf : f_put x1 x2 σ = some v) : Met l yX10_put (ws_ yX10_put cX10_put 3 (some .boolean)) (rmD 1) (va_Pc [.ref (mO M), .int x1, .int x2] (MU M σ)) (Qm M (some (.int v.1)) v.2) 0 0 (mAd M) :=
  m_met [.ref (mO M), .int x1, .int x2] (by decide) rfl (Nat.le_of_ble_eq_true rfl) hc (fun K hl hR hr C B hQ => w_put_E C B hr hR hQ _ _ hb_x2 _ hf)
theorem mc_put {K : KT} {M : MT} {cc : ByteArray} {nL pc dk : Nat} {L : List (Nat × Value)} {rest : List Value} {σ : MS} {v : (Int32 × MS)} {x1 : Int32} {x2 : Int32} (C : Kok K cc nL RX10) (B : MB K M) (dK : kR K = rmD dk) (hd : 1 + 1 ≤ dk) (hb_x2 : x2 = 0 ∨ x2 = 1) (hf : f_put x1 x2 σ = some v) (hW : (rest.map fun v => v.category).sum ≤ 8) (dd : decode cc pc = .ok (.invokevirtual 214, 3)) (kk2 : XJ K nL (Wm K M v.2) (pc + 3) L ((.int v.1) :: rest)) : XJ K nL (Wm K M σ) pc L (.int x2 :: .int x1 :: .ref (mO M) :: rest) :=
  m_callV (rest := rest) (v := (some (.int v.1))) [.int x1, .int x2] 2 rfl C B dK hd (Nat.le_of_ble_eq_true rfl) (lw_V q2053 q2055 qs53 q133 q2056) (by decide +kernel) (met_put B.2 hb_x2 hf) rfl hW dd kk2
def f_readFirst (n : Nat) (x1 : Int32) (x2 : Int32) (σ : MS) : Option (Int32 × MS) := if inb x1 198 = true then if (ga σ 15 (Int32.toNatClampNeg x1)) = x2 then (ev (f_bad (4 : Int32) σ) fun r4 => some (r4.1, r4.2)) else ((f_go n σ).bind fun r3 => some ((1 : Int32), r3)) else none
set_option maxHeartbeats 4000000 in
theorem w_readFirst_E {K : KT} {M : MT} {r : Int32} {τ : MS} (n : Nat) (C : Kok K cX10_readFirst 3 RX10) (B : MB K M) (hr : (kMe K).sig.returnType = some .boolean) (dK : kR K = rmD 3) (hQ : KQm K M (some (.int r)) τ) (x1 : Int32) (x2 : Int32) (σ : MS) (hf : f_readFirst n x1 x2 σ = some (r, τ)) : XJ K 3 (Wm K M σ) 0 [(0, .ref (mO M)), (1, .int x1), (2, .int x2)] [] := by
  unfold f_readFirst at hf
  refine x_aload_n C dX10_readFirst_0 0 rfl ?_
  refine mg_15 C B dX10_readFirst_1 ?_
  refine x_iload_n C dX10_readFirst_4 1 rfl ?_
  obtain ⟨h1, hf⟩ := pf_in hf
  refine ml_15 C B h1 dX10_readFirst_5 ?_
  refine x_iload_n C dX10_readFirst_6 2 rfl ?_
  refine x_icmp_ne (tgt := 16) C dX10_readFirst_7 (by decide) (fun c2 => ?_) (fun c2 => ?_)
  · have hf := pf_f c2 hf
    refine x_aload_n C dX10_readFirst_16 0 rfl ?_
    obtain ⟨r3, er3, hf⟩ := pf_b hf
    refine mc_go C B dK (Nat.le_of_ble_eq_true rfl) er3 (Nat.le_of_ble_eq_true rfl) dX10_readFirst_17 ?_
    refine x_iconst (1 : Int32) C dX10_readFirst_20 (by decide) ?_
    obtain ⟨rfl, rfl⟩ := Prod.mk.inj (Option.some.inj hf)
    exact m_zret C hr (Or.inr rfl) hQ dX10_readFirst_21
  · have hf := pf_t c2 hf
    refine x_aload_n C dX10_readFirst_10 0 rfl ?_
    refine x_iconst (4 : Int32) C dX10_readFirst_11 (by decide) ?_
    obtain ⟨r4, er4, hf⟩ := pf_e hf
    refine mc_bad C B dK (Nat.le_of_ble_eq_true rfl) er4.symm (Nat.le_of_ble_eq_true rfl) dX10_readFirst_12 ?_
    obtain ⟨rfl, rfl⟩ := Prod.mk.inj (Option.some.inj hf)
    exact m_zret C hr (bz_bad_E er4.symm) hQ dX10_readFirst_15
theorem bz_readFirst_E {r : Int32} {τ : MS} {n : Nat} {x1 : Int32} {x2 : Int32} {σ : MS} (hf : f_readFirst n x1 x2 σ = some (r, τ)) : r = 0 ∨ r = 1 := by
  unfold f_readFirst at hf
  obtain ⟨h1, hf⟩ := pf_in hf
  by_cases c2 : (ga σ 15 (Int32.toNatClampNeg x1)) = x2
  · have hf := pf_t c2 hf
    obtain ⟨r4, er4, hf⟩ := pf_e hf
    obtain ⟨rfl, rfl⟩ := Prod.mk.inj (Option.some.inj hf)
    exact (bz_bad_E er4.symm)
  · have hf := pf_f c2 hf
    obtain ⟨r3, er3, hf⟩ := pf_b hf
    obtain ⟨rfl, rfl⟩ := Prod.mk.inj (Option.some.inj hf)
    exact (Or.inr rfl)
theorem met_readFirst {M : MT} {v : (Int32 × MS)} {n : Nat} {σ : MS} {x1 : Int32} {x2 : Int32} {l : Launch} (hc : (mCl M)[mCi M]? = some (RX10, TX10, 61)) (hf : f_readFirst n x1 x2 σ = some v) : Met l yX10_readFirst (ws_ yX10_readFirst cX10_readFirst 3 (some .boolean)) (rmD 3) (va_Pc [.ref (mO M), .int x1, .int x2] (MU M σ)) (Qm M (some (.int v.1)) v.2) 0 0 (mAd M) :=
  m_met [.ref (mO M), .int x1, .int x2] (by decide) rfl (Nat.le_of_ble_eq_true rfl) hc (fun K hl hR hr C B hQ => w_readFirst_E _ C B hr hR hQ _ _ _ hf)
theorem mc_readFirst {K : KT} {M : MT} {cc : ByteArray} {nL pc dk : Nat} {L : List (Nat × Value)} {rest : List Value} {σ : MS} {v : (Int32 × MS)} {n : Nat} {x1 : Int32} {x2 : Int32} (C : Kok K cc nL RX10) (B : MB K M) (dK : kR K = rmD dk) (hd : 3 + 1 ≤ dk) (hf : f_readFirst n x1 x2 σ = some v) (hW : (rest.map fun v => v.category).sum ≤ 8) (dd : decode cc pc = .ok (.invokevirtual 205, 3)) (kk2 : XJ K nL (Wm K M v.2) (pc + 3) L ((.int v.1) :: rest)) : XJ K nL (Wm K M σ) pc L (.int x2 :: .int x1 :: .ref (mO M) :: rest) :=
  m_callV (rest := rest) (v := (some (.int v.1))) [.int x1, .int x2] 2 rfl C B dK hd (Nat.le_of_ble_eq_true rfl) (lw_V q2027 q2029 qs48 q133 q2030) (by decide +kernel) (met_readFirst B.2 hf) rfl hW dd kk2
def f_findIn_3 (n : Nat) (σ : MS) : Nat → Nat → Int32 → Int32 → Int64 → Int32 → Option Int32
  | 0, _, _, _, _, _ => none
  | m + 1, kk, x1, x2, x3, x5 => if x2 ≤ x5 then (some (-1 : Int32)) else (if inb (x1 + x5) 29 = true then if (lg_cmp (gb σ kk (Int32.toNatClampNeg (x1 + x5))) x3) = 0 then (some x5) else (f_findIn_3 n σ m kk x1 x2 x3 (x5 + (1 : Int32))) else none)
set_option maxHeartbeats 4000000 in
theorem w_findIn_3 {K : KT} {M : MT} {r : Int32} (n : Nat) (σ : MS) (C : Kok K cX10_findIn 6 RX10) (B : MB K M) (hr : (kMe K).sig.returnType = some .int) (dK : kR K = rmD 1) (hQ : KQm K M (some (.int r)) σ) : ∀ (m : Nat) (kk : Nat) (x1 : Int32) (x2 : Int32) (x3 : Int64) (x5 : Int32) (hkk : kk = 19 ∨ kk = 20) (hf : f_findIn_3 n σ m kk x1 x2 x3 x5 = some r), XJ K 6 (Wm K M σ) 3 [(0, .ref (mAr M kk)), (1, .int x1), (2, .int x2), (3, .long x3), (5, .int x5)] [] := by
  intro m
  induction m with
  | zero => intro kk x1 x2 x3 x5 hkk hf; cases hf
  | succ m ih =>
    intro kk x1 x2 x3 x5 hkk hf
    rw [f_findIn_3] at hf
    refine x_iload C dX10_findIn_3 4 rfl ?_
    refine x_iload_n C dX10_findIn_5 2 rfl ?_
    refine x_icmp_ge (tgt := 29) C dX10_findIn_6 (by decide) (fun c1 => ?_) (fun c1 => ?_)
    · have hf := pf_t c1 hf
      refine x_iconst (-1 : Int32) C dX10_findIn_29 (by decide) ?_
      obtain rfl := Option.some.inj hf
      exact m_iret C hr hQ dX10_findIn_30
    · have hf := pf_f c1 hf
      refine x_aload_n C dX10_findIn_9 0 rfl ?_
      refine x_iload_n C dX10_findIn_10 1 rfl ?_
      refine x_iload C dX10_findIn_11 4 rfl ?_
      refine x_iadd C dX10_findIn_13 ?_
      obtain ⟨h2, hf⟩ := pf_in hf
      refine ml_kk hkk C B h2 dX10_findIn_14 ?_
      refine x_lload_n C dX10_findIn_15 3 rfl ?_
      refine x_lcmp C dX10_findIn_16 ?_
      refine x_if_ne (tgt := 23) C dX10_findIn_17 (by decide) (fun c3 => ?_) (fun c3 => ?_)
      · have hf := pf_f c3 hf
        refine x_inc (c := (1 : Int32)) (L' := [(0, .ref (mAr M kk)), (1, .int x1), (2, .int x2), (3, .long x3), (5, .int (x5 + (1 : Int32)))]) C dX10_findIn_23 4 rfl (by decide) (Nat.le_of_ble_eq_true rfl) [1, 2, 3, 4, 0] rfl ?_
        refine x_goto (tgt := 3) C dX10_findIn_26 (by decide) ?_
        exact ih kk x1 x2 x3 (x5 + (1 : Int32)) hkk hf
      · have hf := pf_t c3 hf
        refine x_iload C dX10_findIn_20 4 rfl ?_
        obtain rfl := Option.some.inj hf
        exact m_iret C hr hQ dX10_findIn_22
def f_findIn (n : Nat) (σ : MS) (kk : Nat) (x1 : Int32) (x2 : Int32) (x3 : Int64) : Option Int32 := f_findIn_3 n σ n kk x1 x2 x3 (0 : Int32)
set_option maxHeartbeats 4000000 in
theorem w_findIn_E {K : KT} {M : MT} {r : Int32} (n : Nat) (σ : MS) (C : Kok K cX10_findIn 6 RX10) (B : MB K M) (hr : (kMe K).sig.returnType = some .int) (dK : kR K = rmD 1) (hQ : KQm K M (some (.int r)) σ) (kk : Nat) (x1 : Int32) (x2 : Int32) (x3 : Int64) (hkk : kk = 19 ∨ kk = 20) (hf : f_findIn n σ kk x1 x2 x3 = some r) : XJ K 6 (Wm K M σ) 0 [(0, .ref (mAr M kk)), (1, .int x1), (2, .int x2), (3, .long x3)] [] := by
  unfold f_findIn at hf
  refine x_iconst (0 : Int32) C dX10_findIn_0 (by decide) ?_
  refine x_istore (L' := [(0, .ref (mAr M kk)), (1, .int x1), (2, .int x2), (3, .long x3), (5, .int (0 : Int32))]) C dX10_findIn_1 (Nat.le_of_ble_eq_true rfl) [1, 2, 3, 4, 0] rfl ?_
  exact w_findIn_3 n σ C B hr dK hQ n kk x1 x2 x3 (0 : Int32) hkk hf
theorem met_findIn {M : MT} {v : Int32} {n : Nat} {σ : MS} {kk : Nat} {x1 : Int32} {x2 : Int32} {x3 : Int64} {l : Launch} (hc : (mCl M)[mCi M]? = some (RX10, TX10, 61)) (hkk : kk = 19 ∨ kk = 20) (hf : f_findIn n σ kk x1 x2 x3 = some v) : Met l yX10_findIn (ws_ yX10_findIn cX10_findIn 6 (some .int)) (rmD 1) (va_Pc [.ref (mAr M kk), .int x1, .int x2, .long x3] (MU M σ)) (Qm M (some (.int v)) σ) 0 0 (mAd M) :=
  m_met [.ref (mAr M kk), .int x1, .int x2, .long x3] (by decide) rfl (Nat.le_of_ble_eq_true rfl) hc (fun K hl hR hr C B hQ => w_findIn_E _ _ C B hr hR hQ _ _ _ _ hkk hf)
theorem mc_findIn {K : KT} {M : MT} {cc : ByteArray} {nL pc dk : Nat} {L : List (Nat × Value)} {rest : List Value} {σ : MS} {v : Int32} {n : Nat} {kk : Nat} {x1 : Int32} {x2 : Int32} {x3 : Int64} (C : Kok K cc nL RX10) (B : MB K M) (dK : kR K = rmD dk) (hd : 1 + 1 ≤ dk) (hkk : kk = 19 ∨ kk = 20) (hf : f_findIn n σ kk x1 x2 x3 = some v) (hW : (rest.map fun v => v.category).sum ≤ 8) (dd : decode cc pc = .ok (.invokestatic 197, 3)) (kk2 : XJ K nL (Wm K M σ) (pc + 3) L ((.int v) :: rest)) : XJ K nL (Wm K M σ) pc L (.long x3 :: .int x2 :: .int x1 :: .ref (mAr M kk) :: rest) :=
  m_callS (rest := rest) (v := (some (.int v))) [.ref (mAr M kk), .int x1, .int x2, .long x3] 4 rfl C B dK hd (Nat.le_of_ble_eq_true rfl) (lw_S q2043 q2044 q133 q2045) (by decide +kernel) (met_findIn B.2 hkk hf) rfl hW dd kk2
def f_isName_12 (n : Nat) (σ : MS) : Nat → Int32 → Option Int32
  | 0, _ => none
  | m + 1, x1 => if (23 : Int32) < x1 then (some (1 : Int32)) else (if (lg_cmp (gl σ 12) (f_wordOf x1)) = 0 then (some (0 : Int32)) else (f_isName_12 n σ m (x1 + (1 : Int32))))
set_option maxHeartbeats 4000000 in
theorem w_isName_12 {K : KT} {M : MT} {r : Int32} (n : Nat) (σ : MS) (C : Kok K cX10_isName 2 RX10) (B : MB K M) (hr : (kMe K).sig.returnType = some .boolean) (dK : kR K = rmD 3) (hQ : KQm K M (some (.int r)) σ) : ∀ (m : Nat) (x1 : Int32) (hf : f_isName_12 n σ m x1 = some r), XJ K 2 (Wm K M σ) 12 [(0, .ref (mO M)), (1, .int x1)] [] := by
  intro m
  induction m with
  | zero => intro x1 hf; cases hf
  | succ m ih =>
    intro x1 hf
    rw [f_isName_12] at hf
    refine x_iload_n C dX10_isName_12 1 rfl ?_
    refine x_bipush (23 : Int32) C dX10_isName_13 (by decide) ?_
    refine x_icmp_gt (tgt := 38) C dX10_isName_15 (by decide) (fun c1 => ?_) (fun c1 => ?_)
    · have hf := pf_t c1 hf
      refine x_iconst (1 : Int32) C dX10_isName_38 (by decide) ?_
      obtain rfl := Option.some.inj hf
      exact m_zret C hr (Or.inr rfl) hQ dX10_isName_39
    · have hf := pf_f c1 hf
      refine x_aload_n C dX10_isName_18 0 rfl ?_
      refine mg_12 C B dX10_isName_19 ?_
      refine x_iload_n C dX10_isName_22 1 rfl ?_
      refine mc_wordOf C B dK (Nat.le_of_ble_eq_true rfl) rfl (Nat.le_of_ble_eq_true rfl) dX10_isName_23 ?_
      refine x_lcmp C dX10_isName_26 ?_
      refine x_if_ne (tgt := 32) C dX10_isName_27 (by decide) (fun c2 => ?_) (fun c2 => ?_)
      · have hf := pf_f c2 hf
        refine x_inc (c := (1 : Int32)) (L' := [(0, .ref (mO M)), (1, .int (x1 + (1 : Int32)))]) C dX10_isName_32 1 rfl (by decide) (Nat.le_of_ble_eq_true rfl) [1, 0] rfl ?_
        refine x_goto (tgt := 12) C dX10_isName_35 (by decide) ?_
        exact ih (x1 + (1 : Int32)) hf
      · have hf := pf_t c2 hf
        refine x_iconst (0 : Int32) C dX10_isName_30 (by decide) ?_
        obtain rfl := Option.some.inj hf
        exact m_zret C hr (Or.inl rfl) hQ dX10_isName_31
theorem bz_isName_12 {r : Int32} {n : Nat} {σ : MS} : ∀ (m : Nat) (x1 : Int32) (hf : f_isName_12 n σ m x1 = some r), r = 0 ∨ r = 1 := by
  intro m
  induction m with
  | zero => intro x1 hf; cases hf
  | succ m ih =>
    intro x1 hf
    rw [f_isName_12] at hf
    by_cases c1 : (23 : Int32) < x1
    · have hf := pf_t c1 hf
      obtain rfl := Option.some.inj hf
      exact (Or.inr rfl)
    · have hf := pf_f c1 hf
      by_cases c2 : (lg_cmp (gl σ 12) (f_wordOf x1)) = 0
      · have hf := pf_t c2 hf
        obtain rfl := Option.some.inj hf
        exact (Or.inl rfl)
      · have hf := pf_f c2 hf
        exact ih (x1 + (1 : Int32)) hf
def f_isName (n : Nat) (σ : MS) : Option Int32 := if (gi σ 7) = (2 : Int32) then (f_isName_12 n σ n (0 : Int32)) else (some (0 : Int32))
set_option maxHeartbeats 4000000 in
theorem w_isName_E {K : KT} {M : MT} {r : Int32} (n : Nat) (σ : MS) (C : Kok K cX10_isName 2 RX10) (B : MB K M) (hr : (kMe K).sig.returnType = some .boolean) (dK : kR K = rmD 3) (hQ : KQm K M (some (.int r)) σ)  (hf : f_isName n σ = some r) : XJ K 2 (Wm K M σ) 0 [(0, .ref (mO M))] [] := by
  unfold f_isName at hf
  refine x_aload_n C dX10_isName_0 0 rfl ?_
  refine mg_7 C B dX10_isName_1 ?_
  refine x_iconst (2 : Int32) C dX10_isName_4 (by decide) ?_
  refine x_icmp_eq (tgt := 10) C dX10_isName_5 (by decide) (fun c1 => ?_) (fun c1 => ?_)
  · have hf := pf_t c1 hf
    refine x_iconst (0 : Int32) C dX10_isName_10 (by decide) ?_
    refine x_istore_n (L' := [(0, .ref (mO M)), (1, .int (0 : Int32))]) C dX10_isName_11 (Nat.le_of_ble_eq_true rfl) [1, 0] rfl ?_
    exact w_isName_12 n σ C B hr dK hQ n (0 : Int32) hf
  · have hf := pf_f c1 hf
    refine x_iconst (0 : Int32) C dX10_isName_8 (by decide) ?_
    obtain rfl := Option.some.inj hf
    exact m_zret C hr (Or.inl rfl) hQ dX10_isName_9
theorem bz_isName_E {r : Int32} {n : Nat} {σ : MS}  (hf : f_isName n σ = some r) : r = 0 ∨ r = 1 := by
  unfold f_isName at hf
  by_cases c1 : (gi σ 7) = (2 : Int32)
  · have hf := pf_t c1 hf
    exact bz_isName_12 n (0 : Int32) hf
  · have hf := pf_f c1 hf
    obtain rfl := Option.some.inj hf
    exact (Or.inl rfl)
theorem met_isName {M : MT} {v : Int32} {n : Nat} {σ : MS} {l : Launch} (hc : (mCl M)[mCi M]? = some (RX10, TX10, 61)) (hf : f_isName n σ = some v) : Met l yX10_isName (ws_ yX10_isName cX10_isName 2 (some .boolean)) (rmD 3) (va_Pc [.ref (mO M)] (MU M σ)) (Qm M (some (.int v)) σ) 0 0 (mAd M) :=
  m_met [.ref (mO M)] (by decide) rfl (Nat.le_of_ble_eq_true rfl) hc (fun K hl hR hr C B hQ => w_isName_E _ _ C B hr hR hQ hf)
theorem mc_isName {K : KT} {M : MT} {cc : ByteArray} {nL pc dk : Nat} {L : List (Nat × Value)} {rest : List Value} {σ : MS} {v : Int32} {n : Nat} (C : Kok K cc nL RX10) (B : MB K M) (dK : kR K = rmD dk) (hd : 3 + 1 ≤ dk) (hf : f_isName n σ = some v) (hW : (rest.map fun v => v.category).sum ≤ 8) (dd : decode cc pc = .ok (.invokevirtual 193, 3)) (kk2 : XJ K nL (Wm K M σ) (pc + 3) L ((.int v) :: rest)) : XJ K nL (Wm K M σ) pc L (.ref (mO M) :: rest) :=
  m_callV (rest := rest) (v := (some (.int v))) [] 0 rfl C B dK hd (Nat.le_of_ble_eq_true rfl) (lw_V q2039 q2041 qs51 q133 q2042) (by decide +kernel) (met_isName B.2 hf) rfl hW dd kk2
def f_readNew (n : Nat) (x1 : Int32) (σ : MS) : Option (Int32 × MS) := (f_isName n σ).bind fun r1 => if r1 = 0 then (ev (f_bad (1 : Int32) σ) fun r18 => some (r18.1, r18.2)) else ((f_findIn n σ 20 (0 : Int32) (ga σ 15 0) (gl σ 12)).bind fun r3 => if r3 = (-1 : Int32) then ((f_findIn n σ 20 (8 : Int32) (ga σ 15 2) (gl σ 12)).bind fun r6 => if r6 = (-1 : Int32) then ((f_findIn n σ 20 (13 : Int32) (ga σ 15 3) (gl σ 12)).bind fun r9 => if r9 = (-1 : Int32) then ((f_findIn n σ 20 (21 : Int32) (ga σ 15 4) (gl σ 12)).bind fun r12 => if r12 = (-1 : Int32) then (if inb x1 29 = true then ev (sb σ 20 (Int32.toNatClampNeg x1) (gl σ 12)) fun s15 => (f_go n s15).bind fun r16 => some ((1 : Int32), r16) else none) else (ev (f_bad (3 : Int32) σ) fun r17 => some (r17.1, r17.2))) else (ev (f_bad (3 : Int32) σ) fun r11 => some (r11.1, r11.2))) else (ev (f_bad (3 : Int32) σ) fun r8 => some (r8.1, r8.2))) else (ev (f_bad (3 : Int32) σ) fun r5 => some (r5.1, r5.2)))
set_option maxHeartbeats 4000000 in
theorem w_readNew_E {K : KT} {M : MT} {r : Int32} {τ : MS} (n : Nat) (C : Kok K cX10_readNew 2 RX10) (B : MB K M) (hr : (kMe K).sig.returnType = some .boolean) (dK : kR K = rmD 4) (hQ : KQm K M (some (.int r)) τ) (x1 : Int32) (σ : MS) (hf : f_readNew n x1 σ = some (r, τ)) : XJ K 2 (Wm K M σ) 0 [(0, .ref (mO M)), (1, .int x1)] [] := by
  unfold f_readNew at hf
  refine x_aload_n C dX10_readNew_0 0 rfl ?_
  obtain ⟨r1, er1, hf⟩ := pf_b hf
  refine mc_isName C B dK (Nat.le_of_ble_eq_true rfl) er1 (Nat.le_of_ble_eq_true rfl) dX10_readNew_1 ?_
  refine x_if_ne (tgt := 13) C dX10_readNew_4 (by decide) (fun c2 => ?_) (fun c2 => ?_)
  · have hf := pf_f c2 hf
    refine x_aload_n C dX10_readNew_13 0 rfl ?_
    refine mg_20 C B dX10_readNew_14 ?_
    refine x_iconst (0 : Int32) C dX10_readNew_17 (by decide) ?_
    refine x_aload_n C dX10_readNew_18 0 rfl ?_
    refine mg_15 C B dX10_readNew_19 ?_
    refine x_iconst (0 : Int32) C dX10_readNew_22 (by decide) ?_
    refine mlc_15 0 C B (by decide +kernel) dX10_readNew_23 ?_
    refine x_aload_n C dX10_readNew_24 0 rfl ?_
    refine mg_12 C B dX10_readNew_25 ?_
    obtain ⟨r3, er3, hf⟩ := pf_b hf
    refine mc_findIn C B dK (Nat.le_of_ble_eq_true rfl) (Or.inr rfl) er3 (Nat.le_of_ble_eq_true rfl) dX10_readNew_28 ?_
    refine x_iconst (-1 : Int32) C dX10_readNew_31 (by decide) ?_
    refine x_icmp_ne (tgt := 104) C dX10_readNew_32 (by decide) (fun c4 => ?_) (fun c4 => ?_)
    · have hf := pf_f c4 hf
      refine x_aload_n C dX10_readNew_104 0 rfl ?_
      refine x_iconst (3 : Int32) C dX10_readNew_105 (by decide) ?_
      obtain ⟨r5, er5, hf⟩ := pf_e hf
      refine mc_bad C B dK (Nat.le_of_ble_eq_true rfl) er5.symm (Nat.le_of_ble_eq_true rfl) dX10_readNew_106 ?_
      obtain ⟨rfl, rfl⟩ := Prod.mk.inj (Option.some.inj hf)
      exact m_zret C hr (bz_bad_E er5.symm) hQ dX10_readNew_109
    · have hf := pf_t c4 hf
      refine x_aload_n C dX10_readNew_35 0 rfl ?_
      refine mg_20 C B dX10_readNew_36 ?_
      refine x_bipush (8 : Int32) C dX10_readNew_39 (by decide) ?_
      refine x_aload_n C dX10_readNew_41 0 rfl ?_
      refine mg_15 C B dX10_readNew_42 ?_
      refine x_iconst (2 : Int32) C dX10_readNew_45 (by decide) ?_
      refine mlc_15 2 C B (by decide +kernel) dX10_readNew_46 ?_
      refine x_aload_n C dX10_readNew_47 0 rfl ?_
      refine mg_12 C B dX10_readNew_48 ?_
      obtain ⟨r6, er6, hf⟩ := pf_b hf
      refine mc_findIn C B dK (Nat.le_of_ble_eq_true rfl) (Or.inr rfl) er6 (Nat.le_of_ble_eq_true rfl) dX10_readNew_51 ?_
      refine x_iconst (-1 : Int32) C dX10_readNew_54 (by decide) ?_
      refine x_icmp_ne (tgt := 104) C dX10_readNew_55 (by decide) (fun c7 => ?_) (fun c7 => ?_)
      · have hf := pf_f c7 hf
        refine x_aload_n C dX10_readNew_104 0 rfl ?_
        refine x_iconst (3 : Int32) C dX10_readNew_105 (by decide) ?_
        obtain ⟨r8, er8, hf⟩ := pf_e hf
        refine mc_bad C B dK (Nat.le_of_ble_eq_true rfl) er8.symm (Nat.le_of_ble_eq_true rfl) dX10_readNew_106 ?_
        obtain ⟨rfl, rfl⟩ := Prod.mk.inj (Option.some.inj hf)
        exact m_zret C hr (bz_bad_E er8.symm) hQ dX10_readNew_109
      · have hf := pf_t c7 hf
        refine x_aload_n C dX10_readNew_58 0 rfl ?_
        refine mg_20 C B dX10_readNew_59 ?_
        refine x_bipush (13 : Int32) C dX10_readNew_62 (by decide) ?_
        refine x_aload_n C dX10_readNew_64 0 rfl ?_
        refine mg_15 C B dX10_readNew_65 ?_
        refine x_iconst (3 : Int32) C dX10_readNew_68 (by decide) ?_
        refine mlc_15 3 C B (by decide +kernel) dX10_readNew_69 ?_
        refine x_aload_n C dX10_readNew_70 0 rfl ?_
        refine mg_12 C B dX10_readNew_71 ?_
        obtain ⟨r9, er9, hf⟩ := pf_b hf
        refine mc_findIn C B dK (Nat.le_of_ble_eq_true rfl) (Or.inr rfl) er9 (Nat.le_of_ble_eq_true rfl) dX10_readNew_74 ?_
        refine x_iconst (-1 : Int32) C dX10_readNew_77 (by decide) ?_
        refine x_icmp_ne (tgt := 104) C dX10_readNew_78 (by decide) (fun c10 => ?_) (fun c10 => ?_)
        · have hf := pf_f c10 hf
          refine x_aload_n C dX10_readNew_104 0 rfl ?_
          refine x_iconst (3 : Int32) C dX10_readNew_105 (by decide) ?_
          obtain ⟨r11, er11, hf⟩ := pf_e hf
          refine mc_bad C B dK (Nat.le_of_ble_eq_true rfl) er11.symm (Nat.le_of_ble_eq_true rfl) dX10_readNew_106 ?_
          obtain ⟨rfl, rfl⟩ := Prod.mk.inj (Option.some.inj hf)
          exact m_zret C hr (bz_bad_E er11.symm) hQ dX10_readNew_109
        · have hf := pf_t c10 hf
          refine x_aload_n C dX10_readNew_81 0 rfl ?_
          refine mg_20 C B dX10_readNew_82 ?_
          refine x_bipush (21 : Int32) C dX10_readNew_85 (by decide) ?_
          refine x_aload_n C dX10_readNew_87 0 rfl ?_
          refine mg_15 C B dX10_readNew_88 ?_
          refine x_iconst (4 : Int32) C dX10_readNew_91 (by decide) ?_
          refine mlc_15 4 C B (by decide +kernel) dX10_readNew_92 ?_
          refine x_aload_n C dX10_readNew_93 0 rfl ?_
          refine mg_12 C B dX10_readNew_94 ?_
          obtain ⟨r12, er12, hf⟩ := pf_b hf
          refine mc_findIn C B dK (Nat.le_of_ble_eq_true rfl) (Or.inr rfl) er12 (Nat.le_of_ble_eq_true rfl) dX10_readNew_97 ?_
          refine x_iconst (-1 : Int32) C dX10_readNew_100 (by decide) ?_
          refine x_icmp_eq (tgt := 110) C dX10_readNew_101 (by decide) (fun c13 => ?_) (fun c13 => ?_)
          · have hf := pf_t c13 hf
            refine x_aload_n C dX10_readNew_110 0 rfl ?_
            refine mg_20 C B dX10_readNew_111 ?_
            refine x_iload_n C dX10_readNew_114 1 rfl ?_
            refine x_aload_n C dX10_readNew_115 0 rfl ?_
            refine mg_12 C B dX10_readNew_116 ?_
            obtain ⟨h14, hf⟩ := pf_in hf
            refine ms_20 C B h14 dX10_readNew_119 ?_
            obtain ⟨s15, es15, hf⟩ := pf_e hf
            refine m_ren es15 ?_
            refine x_aload_n C dX10_readNew_120 0 rfl ?_
            obtain ⟨r16, er16, hf⟩ := pf_b hf
            refine mc_go C B dK (Nat.le_of_ble_eq_true rfl) er16 (Nat.le_of_ble_eq_true rfl) dX10_readNew_121 ?_
            refine x_iconst (1 : Int32) C dX10_readNew_124 (by decide) ?_
            obtain ⟨rfl, rfl⟩ := Prod.mk.inj (Option.some.inj hf)
            exact m_zret C hr (Or.inr rfl) hQ dX10_readNew_125
          · have hf := pf_f c13 hf
            refine x_aload_n C dX10_readNew_104 0 rfl ?_
            refine x_iconst (3 : Int32) C dX10_readNew_105 (by decide) ?_
            obtain ⟨r17, er17, hf⟩ := pf_e hf
            refine mc_bad C B dK (Nat.le_of_ble_eq_true rfl) er17.symm (Nat.le_of_ble_eq_true rfl) dX10_readNew_106 ?_
            obtain ⟨rfl, rfl⟩ := Prod.mk.inj (Option.some.inj hf)
            exact m_zret C hr (bz_bad_E er17.symm) hQ dX10_readNew_109
  · have hf := pf_t c2 hf
    refine x_aload_n C dX10_readNew_7 0 rfl ?_
    refine x_iconst (1 : Int32) C dX10_readNew_8 (by decide) ?_
    obtain ⟨r18, er18, hf⟩ := pf_e hf
    refine mc_bad C B dK (Nat.le_of_ble_eq_true rfl) er18.symm (Nat.le_of_ble_eq_true rfl) dX10_readNew_9 ?_
    obtain ⟨rfl, rfl⟩ := Prod.mk.inj (Option.some.inj hf)
    exact m_zret C hr (bz_bad_E er18.symm) hQ dX10_readNew_12
theorem bz_readNew_E {r : Int32} {τ : MS} {n : Nat} {x1 : Int32} {σ : MS} (hf : f_readNew n x1 σ = some (r, τ)) : r = 0 ∨ r = 1 := by
  unfold f_readNew at hf
  obtain ⟨r1, er1, hf⟩ := pf_b hf
  by_cases c2 : r1 = 0
  · have hf := pf_t c2 hf
    obtain ⟨r18, er18, hf⟩ := pf_e hf
    obtain ⟨rfl, rfl⟩ := Prod.mk.inj (Option.some.inj hf)
    exact (bz_bad_E er18.symm)
  · have hf := pf_f c2 hf
    obtain ⟨r3, er3, hf⟩ := pf_b hf
    by_cases c4 : r3 = (-1 : Int32)
    · have hf := pf_t c4 hf
      obtain ⟨r6, er6, hf⟩ := pf_b hf
      by_cases c7 : r6 = (-1 : Int32)
      · have hf := pf_t c7 hf
        obtain ⟨r9, er9, hf⟩ := pf_b hf
        by_cases c10 : r9 = (-1 : Int32)
        · have hf := pf_t c10 hf
          obtain ⟨r12, er12, hf⟩ := pf_b hf
          by_cases c13 : r12 = (-1 : Int32)
          · have hf := pf_t c13 hf
            obtain ⟨h14, hf⟩ := pf_in hf
            obtain ⟨s15, es15, hf⟩ := pf_e hf
            obtain ⟨r16, er16, hf⟩ := pf_b hf
            obtain ⟨rfl, rfl⟩ := Prod.mk.inj (Option.some.inj hf)
            exact (Or.inr rfl)
          · have hf := pf_f c13 hf
            obtain ⟨r17, er17, hf⟩ := pf_e hf
            obtain ⟨rfl, rfl⟩ := Prod.mk.inj (Option.some.inj hf)
            exact (bz_bad_E er17.symm)
        · have hf := pf_f c10 hf
          obtain ⟨r11, er11, hf⟩ := pf_e hf
          obtain ⟨rfl, rfl⟩ := Prod.mk.inj (Option.some.inj hf)
          exact (bz_bad_E er11.symm)
      · have hf := pf_f c7 hf
        obtain ⟨r8, er8, hf⟩ := pf_e hf
        obtain ⟨rfl, rfl⟩ := Prod.mk.inj (Option.some.inj hf)
        exact (bz_bad_E er8.symm)
    · have hf := pf_f c4 hf
      obtain ⟨r5, er5, hf⟩ := pf_e hf
      obtain ⟨rfl, rfl⟩ := Prod.mk.inj (Option.some.inj hf)
      exact (bz_bad_E er5.symm)
theorem met_readNew {M : MT} {v : (Int32 × MS)} {n : Nat} {σ : MS} {x1 : Int32} {l : Launch} (hc : (mCl M)[mCi M]? = some (RX10, TX10, 61)) (hf : f_readNew n x1 σ = some v) : Met l yX10_readNew (ws_ yX10_readNew cX10_readNew 2 (some .boolean)) (rmD 4) (va_Pc [.ref (mO M), .int x1] (MU M σ)) (Qm M (some (.int v.1)) v.2) 0 0 (mAd M) :=
  m_met [.ref (mO M), .int x1] (by decide) rfl (Nat.le_of_ble_eq_true rfl) hc (fun K hl hR hr C B hQ => w_readNew_E _ C B hr hR hQ _ _ hf)
theorem mc_readNew {K : KT} {M : MT} {cc : ByteArray} {nL pc dk : Nat} {L : List (Nat × Value)} {rest : List Value} {σ : MS} {v : (Int32 × MS)} {n : Nat} {x1 : Int32} (C : Kok K cc nL RX10) (B : MB K M) (dK : kR K = rmD dk) (hd : 4 + 1 ≤ dk) (hf : f_readNew n x1 σ = some v) (hW : (rest.map fun v => v.category).sum ≤ 8) (dd : decode cc pc = .ok (.invokevirtual 208, 3)) (kk2 : XJ K nL (Wm K M v.2) (pc + 3) L ((.int v.1) :: rest)) : XJ K nL (Wm K M σ) pc L (.int x1 :: .ref (mO M) :: rest) :=
  m_callV (rest := rest) (v := (some (.int v.1))) [.int x1] 1 rfl C B dK hd (Nat.le_of_ble_eq_true rfl) (lw_V q2035 q2037 qs50 q133 q2038) (by decide +kernel) (met_readNew B.2 hf) rfl hW dd kk2
def f_readKind (n : Nat) (σ : MS) : Option (Int32 × MS) := (f_readFirst n (2 : Int32) (5 : Int32) σ).bind fun r1 => if r1.1 = 0 then (some ((0 : Int32), r1.2)) else ((f_readNew n ((8 : Int32) + (ga r1.2 15 2)) r1.2).bind fun r3 => if r3.1 = 0 then (some ((0 : Int32), r3.2)) else (ev (sa r3.2 15 2 ((ga r3.2 15 2) + (1 : Int32))) fun s5 => some ((1 : Int32), s5)))
set_option maxHeartbeats 4000000 in
theorem w_readKind_E {K : KT} {M : MT} {r : Int32} {τ : MS} (n : Nat) (C : Kok K cX10_readKind 1 RX10) (B : MB K M) (hr : (kMe K).sig.returnType = some .boolean) (dK : kR K = rmD 5) (hQ : KQm K M (some (.int r)) τ) (σ : MS) (hf : f_readKind n σ = some (r, τ)) : XJ K 1 (Wm K M σ) 0 [(0, .ref (mO M))] [] := by
  unfold f_readKind at hf
  refine x_aload_n C dX10_readKind_0 0 rfl ?_
  refine x_iconst (2 : Int32) C dX10_readKind_1 (by decide) ?_
  refine x_iconst (5 : Int32) C dX10_readKind_2 (by decide) ?_
  obtain ⟨r1, er1, hf⟩ := pf_b hf
  refine mc_readFirst C B dK (Nat.le_of_ble_eq_true rfl) er1 (Nat.le_of_ble_eq_true rfl) dX10_readKind_3 ?_
  refine x_if_eq (tgt := 25) C dX10_readKind_6 (by decide) (fun c2 => ?_) (fun c2 => ?_)
  · have hf := pf_t c2 hf
    refine x_iconst (0 : Int32) C dX10_readKind_25 (by decide) ?_
    obtain ⟨rfl, rfl⟩ := Prod.mk.inj (Option.some.inj hf)
    exact m_zret C hr (Or.inl rfl) hQ dX10_readKind_26
  · have hf := pf_f c2 hf
    refine x_aload_n C dX10_readKind_9 0 rfl ?_
    refine x_bipush (8 : Int32) C dX10_readKind_10 (by decide) ?_
    refine x_aload_n C dX10_readKind_12 0 rfl ?_
    refine mg_15 C B dX10_readKind_13 ?_
    refine x_iconst (2 : Int32) C dX10_readKind_16 (by decide) ?_
    refine mlc_15 2 C B (by decide +kernel) dX10_readKind_17 ?_
    refine x_iadd C dX10_readKind_18 ?_
    obtain ⟨r3, er3, hf⟩ := pf_b hf
    refine mc_readNew C B dK (Nat.le_of_ble_eq_true rfl) er3 (Nat.le_of_ble_eq_true rfl) dX10_readKind_19 ?_
    refine x_if_ne (tgt := 27) C dX10_readKind_22 (by decide) (fun c4 => ?_) (fun c4 => ?_)
    · have hf := pf_f c4 hf
      refine x_aload_n C dX10_readKind_27 0 rfl ?_
      refine mg_15 C B dX10_readKind_28 ?_
      refine x_iconst (2 : Int32) C dX10_readKind_31 (by decide) ?_
      refine x_dup2_11 C dX10_readKind_32 rfl rfl ?_
      refine mlc_15 2 C B (by decide +kernel) dX10_readKind_33 ?_
      refine x_iconst (1 : Int32) C dX10_readKind_34 (by decide) ?_
      refine x_iadd C dX10_readKind_35 ?_
      refine msc_15 2 C B (by decide +kernel) dX10_readKind_36 ?_
      obtain ⟨s5, es5, hf⟩ := pf_e hf
      refine m_ren es5 ?_
      refine x_iconst (1 : Int32) C dX10_readKind_37 (by decide) ?_
      obtain ⟨rfl, rfl⟩ := Prod.mk.inj (Option.some.inj hf)
      exact m_zret C hr (Or.inr rfl) hQ dX10_readKind_38
    · have hf := pf_t c4 hf
      refine x_iconst (0 : Int32) C dX10_readKind_25 (by decide) ?_
      obtain ⟨rfl, rfl⟩ := Prod.mk.inj (Option.some.inj hf)
      exact m_zret C hr (Or.inl rfl) hQ dX10_readKind_26
theorem bz_readKind_E {r : Int32} {τ : MS} {n : Nat} {σ : MS} (hf : f_readKind n σ = some (r, τ)) : r = 0 ∨ r = 1 := by
  unfold f_readKind at hf
  obtain ⟨r1, er1, hf⟩ := pf_b hf
  by_cases c2 : r1.1 = 0
  · have hf := pf_t c2 hf
    obtain ⟨rfl, rfl⟩ := Prod.mk.inj (Option.some.inj hf)
    exact (Or.inl rfl)
  · have hf := pf_f c2 hf
    obtain ⟨r3, er3, hf⟩ := pf_b hf
    by_cases c4 : r3.1 = 0
    · have hf := pf_t c4 hf
      obtain ⟨rfl, rfl⟩ := Prod.mk.inj (Option.some.inj hf)
      exact (Or.inl rfl)
    · have hf := pf_f c4 hf
      obtain ⟨s5, es5, hf⟩ := pf_e hf
      obtain ⟨rfl, rfl⟩ := Prod.mk.inj (Option.some.inj hf)
      exact (Or.inr rfl)
theorem met_readKind {M : MT} {v : (Int32 × MS)} {n : Nat} {σ : MS} {l : Launch} (hc : (mCl M)[mCi M]? = some (RX10, TX10, 61)) (hf : f_readKind n σ = some v) : Met l yX10_readKind (ws_ yX10_readKind cX10_readKind 1 (some .boolean)) (rmD 5) (va_Pc [.ref (mO M)] (MU M σ)) (Qm M (some (.int v.1)) v.2) 0 0 (mAd M) :=
  m_met [.ref (mO M)] (by decide) rfl (Nat.le_of_ble_eq_true rfl) hc (fun K hl hR hr C B hQ => w_readKind_E _ C B hr hR hQ _ hf)
theorem mc_readKind {K : KT} {M : MT} {cc : ByteArray} {nL pc dk : Nat} {L : List (Nat × Value)} {rest : List Value} {σ : MS} {v : (Int32 × MS)} {n : Nat} (C : Kok K cc nL RX10) (B : MB K M) (dK : kR K = rmD dk) (hd : 5 + 1 ≤ dk) (hf : f_readKind n σ = some v) (hW : (rest.map fun v => v.category).sum ≤ 8) (dd : decode cc pc = .ok (.invokevirtual 233, 3)) (kk2 : XJ K nL (Wm K M v.2) (pc + 3) L ((.int v.1) :: rest)) : XJ K nL (Wm K M σ) pc L (.ref (mO M) :: rest) :=
  m_callV (rest := rest) (v := (some (.int v.1))) [] 0 rfl C B dK hd (Nat.le_of_ble_eq_true rfl) (lw_V q2072 q2074 qs57 q133 q2075) (by decide +kernel) (met_readKind B.2 hf) rfl hW dd kk2
def f_isOne (n : Nat) (x1 : Int32) (x2 : Int32) (σ : MS) : Option (Int32 × MS) := (f_isName n σ).bind fun r1 => if r1 = 0 then (ev (f_bad (1 : Int32) σ) fun r8 => some (r8.1, r8.2)) else ((f_findIn n σ 20 x1 x2 (gl σ 12)).bind fun r3 => ev (si σ 13 r3) fun s4 => if (gi s4 13) = (-1 : Int32) then (ev (f_bad (3 : Int32) s4) fun r6 => if r6.1 = 0 then (some ((0 : Int32), r6.2)) else (some ((1 : Int32), r6.2))) else (some ((1 : Int32), s4)))
set_option maxHeartbeats 4000000 in
theorem w_isOne_E {K : KT} {M : MT} {r : Int32} {τ : MS} (n : Nat) (C : Kok K cX10_isOne 3 RX10) (B : MB K M) (hr : (kMe K).sig.returnType = some .boolean) (dK : kR K = rmD 4) (hQ : KQm K M (some (.int r)) τ) (x1 : Int32) (x2 : Int32) (σ : MS) (hf : f_isOne n x1 x2 σ = some (r, τ)) : XJ K 3 (Wm K M σ) 0 [(0, .ref (mO M)), (1, .int x1), (2, .int x2)] [] := by
  unfold f_isOne at hf
  refine x_aload_n C dX10_isOne_0 0 rfl ?_
  obtain ⟨r1, er1, hf⟩ := pf_b hf
  refine mc_isName C B dK (Nat.le_of_ble_eq_true rfl) er1 (Nat.le_of_ble_eq_true rfl) dX10_isOne_1 ?_
  refine x_if_ne (tgt := 13) C dX10_isOne_4 (by decide) (fun c2 => ?_) (fun c2 => ?_)
  · have hf := pf_f c2 hf
    refine x_aload_n C dX10_isOne_13 0 rfl ?_
    refine x_aload_n C dX10_isOne_14 0 rfl ?_
    refine mg_20 C B dX10_isOne_15 ?_
    refine x_iload_n C dX10_isOne_18 1 rfl ?_
    refine x_iload_n C dX10_isOne_19 2 rfl ?_
    refine x_aload_n C dX10_isOne_20 0 rfl ?_
    refine mg_12 C B dX10_isOne_21 ?_
    obtain ⟨r3, er3, hf⟩ := pf_b hf
    refine mc_findIn C B dK (Nat.le_of_ble_eq_true rfl) (Or.inr rfl) er3 (Nat.le_of_ble_eq_true rfl) dX10_isOne_24 ?_
    refine mp_13 C B dX10_isOne_27 ?_
    obtain ⟨s4, es4, hf⟩ := pf_e hf
    refine m_ren es4 ?_
    refine x_aload_n C dX10_isOne_30 0 rfl ?_
    refine mg_13 C B dX10_isOne_31 ?_
    refine x_iconst (-1 : Int32) C dX10_isOne_34 (by decide) ?_
    refine x_icmp_ne (tgt := 46) C dX10_isOne_35 (by decide) (fun c5 => ?_) (fun c5 => ?_)
    · have hf := pf_f c5 hf
      refine x_iconst (1 : Int32) C dX10_isOne_46 (by decide) ?_
      refine x_goto (tgt := 51) C dX10_isOne_47 (by decide) ?_
      obtain ⟨rfl, rfl⟩ := Prod.mk.inj (Option.some.inj hf)
      exact m_zret C hr (Or.inr rfl) hQ dX10_isOne_51
    · have hf := pf_t c5 hf
      refine x_aload_n C dX10_isOne_38 0 rfl ?_
      refine x_iconst (3 : Int32) C dX10_isOne_39 (by decide) ?_
      obtain ⟨r6, er6, hf⟩ := pf_e hf
      refine mc_bad C B dK (Nat.le_of_ble_eq_true rfl) er6.symm (Nat.le_of_ble_eq_true rfl) dX10_isOne_40 ?_
      refine x_if_eq (tgt := 50) C dX10_isOne_43 (by decide) (fun c7 => ?_) (fun c7 => ?_)
      · have hf := pf_t c7 hf
        refine x_iconst (0 : Int32) C dX10_isOne_50 (by decide) ?_
        obtain ⟨rfl, rfl⟩ := Prod.mk.inj (Option.some.inj hf)
        exact m_zret C hr (Or.inl rfl) hQ dX10_isOne_51
      · have hf := pf_f c7 hf
        refine x_iconst (1 : Int32) C dX10_isOne_46 (by decide) ?_
        refine x_goto (tgt := 51) C dX10_isOne_47 (by decide) ?_
        obtain ⟨rfl, rfl⟩ := Prod.mk.inj (Option.some.inj hf)
        exact m_zret C hr (Or.inr rfl) hQ dX10_isOne_51
  · have hf := pf_t c2 hf
    refine x_aload_n C dX10_isOne_7 0 rfl ?_
    refine x_iconst (1 : Int32) C dX10_isOne_8 (by decide) ?_
    obtain ⟨r8, er8, hf⟩ := pf_e hf
    refine mc_bad C B dK (Nat.le_of_ble_eq_true rfl) er8.symm (Nat.le_of_ble_eq_true rfl) dX10_isOne_9 ?_
    obtain ⟨rfl, rfl⟩ := Prod.mk.inj (Option.some.inj hf)
    exact m_zret C hr (bz_bad_E er8.symm) hQ dX10_isOne_12
theorem bz_isOne_E {r : Int32} {τ : MS} {n : Nat} {x1 : Int32} {x2 : Int32} {σ : MS} (hf : f_isOne n x1 x2 σ = some (r, τ)) : r = 0 ∨ r = 1 := by
  unfold f_isOne at hf
  obtain ⟨r1, er1, hf⟩ := pf_b hf
  by_cases c2 : r1 = 0
  · have hf := pf_t c2 hf
    obtain ⟨r8, er8, hf⟩ := pf_e hf
    obtain ⟨rfl, rfl⟩ := Prod.mk.inj (Option.some.inj hf)
    exact (bz_bad_E er8.symm)
  · have hf := pf_f c2 hf
    obtain ⟨r3, er3, hf⟩ := pf_b hf
    obtain ⟨s4, es4, hf⟩ := pf_e hf
    by_cases c5 : (gi s4 13) = (-1 : Int32)
    · have hf := pf_t c5 hf
      obtain ⟨r6, er6, hf⟩ := pf_e hf
      by_cases c7 : r6.1 = 0
      · have hf := pf_t c7 hf
        obtain ⟨rfl, rfl⟩ := Prod.mk.inj (Option.some.inj hf)
        exact (Or.inl rfl)
      · have hf := pf_f c7 hf
        obtain ⟨rfl, rfl⟩ := Prod.mk.inj (Option.some.inj hf)
        exact (Or.inr rfl)
    · have hf := pf_f c5 hf
      obtain ⟨rfl, rfl⟩ := Prod.mk.inj (Option.some.inj hf)
      exact (Or.inr rfl)
theorem met_isOne {M : MT} {v : (Int32 × MS)} {n : Nat} {σ : MS} {x1 : Int32} {x2 : Int32} {l : Launch} (hc : (mCl M)[mCi M]? = some (RX10, TX10, 61)) (hf : f_isOne n x1 x2 σ = some v) : Met l yX10_isOne (ws_ yX10_isOne cX10_isOne 3 (some .boolean)) (rmD 4) (va_Pc [.ref (mO M), .int x1, .int x2] (MU M σ)) (Qm M (some (.int v.1)) v.2) 0 0 (mAd M) :=
  m_met [.ref (mO M), .int x1, .int x2] (by decide) rfl (Nat.le_of_ble_eq_true rfl) hc (fun K hl hR hr C B hQ => w_isOne_E _ C B hr hR hQ _ _ _ hf)
theorem mc_isOne {K : KT} {M : MT} {cc : ByteArray} {nL pc dk : Nat} {L : List (Nat × Value)} {rest : List Value} {σ : MS} {v : (Int32 × MS)} {n : Nat} {x1 : Int32} {x2 : Int32} (C : Kok K cc nL RX10) (B : MB K M) (dK : kR K = rmD dk) (hd : 4 + 1 ≤ dk) (hf : f_isOne n x1 x2 σ = some v) (hW : (rest.map fun v => v.category).sum ≤ 8) (dd : decode cc pc = .ok (.invokevirtual 201, 3)) (kk2 : XJ K nL (Wm K M v.2) (pc + 3) L ((.int v.1) :: rest)) : XJ K nL (Wm K M σ) pc L (.int x2 :: .int x1 :: .ref (mO M) :: rest) :=
  m_callV (rest := rest) (v := (some (.int v.1))) [.int x1, .int x2] 2 rfl C B dK hd (Nat.le_of_ble_eq_true rfl) (lw_V q2065 q2067 qs56 q133 q2068) (by decide +kernel) (met_isOne B.2 hf) rfl hW dd kk2
def f_isIn (x0 : Int32) (x1 : Int32) (x2 : Int32) : Int32 := if x0 < x1 then ((0 : Int32)) else (if x2 < x0 then ((0 : Int32)) else ((1 : Int32)))
set_option maxHeartbeats 4000000 in
theorem w_isIn_E {K : KT} {M : MT} {r : Int32} {σ : MS} (C : Kok K cX10_isIn 3 RX10) (B : MB K M) (hr : (kMe K).sig.returnType = some .boolean) (dK : kR K = rmD 1) (hQ : KQm K M (some (.int r)) σ) (x0 : Int32) (x1 : Int32) (x2 : Int32) (hf : f_isIn x0 x1 x2 = r) : XJ K 3 (Wm K M σ) 0 [(0, .int x0), (1, .int x1), (2, .int x2)] [] := by
  unfold f_isIn at hf
  refine x_iload_n C dX10_isIn_0 0 rfl ?_
  refine x_iload_n C dX10_isIn_1 1 rfl ?_
  refine x_icmp_lt (tgt := 14) C dX10_isIn_2 (by decide) (fun c1 => ?_) (fun c1 => ?_)
  · have hf := pf_t c1 hf
    refine x_iconst (0 : Int32) C dX10_isIn_14 (by decide) ?_
    subst hf
    exact m_zret C hr (Or.inl rfl) hQ dX10_isIn_15
  · have hf := pf_f c1 hf
    refine x_iload_n C dX10_isIn_5 0 rfl ?_
    refine x_iload_n C dX10_isIn_6 2 rfl ?_
    refine x_icmp_gt (tgt := 14) C dX10_isIn_7 (by decide) (fun c2 => ?_) (fun c2 => ?_)
    · have hf := pf_t c2 hf
      refine x_iconst (0 : Int32) C dX10_isIn_14 (by decide) ?_
      subst hf
      exact m_zret C hr (Or.inl rfl) hQ dX10_isIn_15
    · have hf := pf_f c2 hf
      refine x_iconst (1 : Int32) C dX10_isIn_10 (by decide) ?_
      refine x_goto (tgt := 15) C dX10_isIn_11 (by decide) ?_
      subst hf
      exact m_zret C hr (Or.inr rfl) hQ dX10_isIn_15
theorem bz_isIn_E {r : Int32} {x0 : Int32} {x1 : Int32} {x2 : Int32} (hf : f_isIn x0 x1 x2 = r) : r = 0 ∨ r = 1 := by
  unfold f_isIn at hf
  by_cases c1 : x0 < x1
  · have hf := pf_t c1 hf
    subst hf
    exact (Or.inl rfl)
  · have hf := pf_f c1 hf
    by_cases c2 : x2 < x0
    · have hf := pf_t c2 hf
      subst hf
      exact (Or.inl rfl)
    · have hf := pf_f c2 hf
      subst hf
      exact (Or.inr rfl)
theorem met_isIn {M : MT} {v : Int32} {σ : MS} {x0 : Int32} {x1 : Int32} {x2 : Int32} {l : Launch} (hc : (mCl M)[mCi M]? = some (RX10, TX10, 61)) (hf : f_isIn x0 x1 x2 = v) : Met l yX10_isIn (ws_ yX10_isIn cX10_isIn 3 (some .boolean)) (rmD 1) (va_Pc [.int x0, .int x1, .int x2] (MU M σ)) (Qm M (some (.int v)) σ) 0 0 (mAd M) :=
  m_met [.int x0, .int x1, .int x2] (by decide) rfl (Nat.le_of_ble_eq_true rfl) hc (fun K hl hR hr C B hQ => w_isIn_E C B hr hR hQ _ _ _ hf)
theorem mc_isIn {K : KT} {M : MT} {cc : ByteArray} {nL pc dk : Nat} {L : List (Nat × Value)} {rest : List Value} {σ : MS} {v : Int32} {x0 : Int32} {x1 : Int32} {x2 : Int32} (C : Kok K cc nL RX10) (B : MB K M) (dK : kR K = rmD dk) (hd : 1 + 1 ≤ dk) (hf : f_isIn x0 x1 x2 = v) (hW : (rest.map fun v => v.category).sum ≤ 8) (dd : decode cc pc = .ok (.invokestatic 75, 3)) (kk2 : XJ K nL (Wm K M σ) (pc + 3) L ((.int v) :: rest)) : XJ K nL (Wm K M σ) pc L (.int x2 :: .int x1 :: .int x0 :: rest) :=
  m_callS (rest := rest) (v := (some (.int v))) [.int x0, .int x1, .int x2] 3 rfl C B dK hd (Nat.le_of_ble_eq_true rfl) (lw_S q2050 q2051 q133 q2052) (by decide +kernel) (met_isIn B.2 hf) rfl hW dd kk2
def f_readNumber (n : Nat) (x1 : Int32) (x2 : Int32) (σ : MS) : Option (Int32 × MS) := if (gi σ 7) = (3 : Int32) then (if (f_isIn (gi σ 8) x1 x2) = 0 then (ev (f_bad (2 : Int32) σ) fun r5 => some (r5.1, r5.2)) else (ev (si σ 13 (gi σ 8)) fun s3 => (f_go n s3).bind fun r4 => some ((1 : Int32), r4))) else (ev (f_bad (1 : Int32) σ) fun r6 => some (r6.1, r6.2))
set_option maxHeartbeats 4000000 in
theorem w_readNumber_E {K : KT} {M : MT} {r : Int32} {τ : MS} (n : Nat) (C : Kok K cX10_readNumber 3 RX10) (B : MB K M) (hr : (kMe K).sig.returnType = some .boolean) (dK : kR K = rmD 3) (hQ : KQm K M (some (.int r)) τ) (x1 : Int32) (x2 : Int32) (σ : MS) (hf : f_readNumber n x1 x2 σ = some (r, τ)) : XJ K 3 (Wm K M σ) 0 [(0, .ref (mO M)), (1, .int x1), (2, .int x2)] [] := by
  unfold f_readNumber at hf
  refine x_aload_n C dX10_readNumber_0 0 rfl ?_
  refine mg_7 C B dX10_readNumber_1 ?_
  refine x_iconst (3 : Int32) C dX10_readNumber_4 (by decide) ?_
  refine x_icmp_eq (tgt := 14) C dX10_readNumber_5 (by decide) (fun c1 => ?_) (fun c1 => ?_)
  · have hf := pf_t c1 hf
    refine x_aload_n C dX10_readNumber_14 0 rfl ?_
    refine mg_8 C B dX10_readNumber_15 ?_
    refine x_iload_n C dX10_readNumber_18 1 rfl ?_
    refine x_iload_n C dX10_readNumber_19 2 rfl ?_
    refine mc_isIn C B dK (Nat.le_of_ble_eq_true rfl) rfl (Nat.le_of_ble_eq_true rfl) dX10_readNumber_20 ?_
    refine x_if_ne (tgt := 32) C dX10_readNumber_23 (by decide) (fun c2 => ?_) (fun c2 => ?_)
    · have hf := pf_f c2 hf
      refine x_aload_n C dX10_readNumber_32 0 rfl ?_
      refine x_aload_n C dX10_readNumber_33 0 rfl ?_
      refine mg_8 C B dX10_readNumber_34 ?_
      refine mp_13 C B dX10_readNumber_37 ?_
      obtain ⟨s3, es3, hf⟩ := pf_e hf
      refine m_ren es3 ?_
      refine x_aload_n C dX10_readNumber_40 0 rfl ?_
      obtain ⟨r4, er4, hf⟩ := pf_b hf
      refine mc_go C B dK (Nat.le_of_ble_eq_true rfl) er4 (Nat.le_of_ble_eq_true rfl) dX10_readNumber_41 ?_
      refine x_iconst (1 : Int32) C dX10_readNumber_44 (by decide) ?_
      obtain ⟨rfl, rfl⟩ := Prod.mk.inj (Option.some.inj hf)
      exact m_zret C hr (Or.inr rfl) hQ dX10_readNumber_45
    · have hf := pf_t c2 hf
      refine x_aload_n C dX10_readNumber_26 0 rfl ?_
      refine x_iconst (2 : Int32) C dX10_readNumber_27 (by decide) ?_
      obtain ⟨r5, er5, hf⟩ := pf_e hf
      refine mc_bad C B dK (Nat.le_of_ble_eq_true rfl) er5.symm (Nat.le_of_ble_eq_true rfl) dX10_readNumber_28 ?_
      obtain ⟨rfl, rfl⟩ := Prod.mk.inj (Option.some.inj hf)
      exact m_zret C hr (bz_bad_E er5.symm) hQ dX10_readNumber_31
  · have hf := pf_f c1 hf
    refine x_aload_n C dX10_readNumber_8 0 rfl ?_
    refine x_iconst (1 : Int32) C dX10_readNumber_9 (by decide) ?_
    obtain ⟨r6, er6, hf⟩ := pf_e hf
    refine mc_bad C B dK (Nat.le_of_ble_eq_true rfl) er6.symm (Nat.le_of_ble_eq_true rfl) dX10_readNumber_10 ?_
    obtain ⟨rfl, rfl⟩ := Prod.mk.inj (Option.some.inj hf)
    exact m_zret C hr (bz_bad_E er6.symm) hQ dX10_readNumber_13
theorem bz_readNumber_E {r : Int32} {τ : MS} {n : Nat} {x1 : Int32} {x2 : Int32} {σ : MS} (hf : f_readNumber n x1 x2 σ = some (r, τ)) : r = 0 ∨ r = 1 := by
  unfold f_readNumber at hf
  by_cases c1 : (gi σ 7) = (3 : Int32)
  · have hf := pf_t c1 hf
    by_cases c2 : (f_isIn (gi σ 8) x1 x2) = 0
    · have hf := pf_t c2 hf
      obtain ⟨r5, er5, hf⟩ := pf_e hf
      obtain ⟨rfl, rfl⟩ := Prod.mk.inj (Option.some.inj hf)
      exact (bz_bad_E er5.symm)
    · have hf := pf_f c2 hf
      obtain ⟨s3, es3, hf⟩ := pf_e hf
      obtain ⟨r4, er4, hf⟩ := pf_b hf
      obtain ⟨rfl, rfl⟩ := Prod.mk.inj (Option.some.inj hf)
      exact (Or.inr rfl)
  · have hf := pf_f c1 hf
    obtain ⟨r6, er6, hf⟩ := pf_e hf
    obtain ⟨rfl, rfl⟩ := Prod.mk.inj (Option.some.inj hf)
    exact (bz_bad_E er6.symm)
theorem met_readNumber {M : MT} {v : (Int32 × MS)} {n : Nat} {σ : MS} {x1 : Int32} {x2 : Int32} {l : Launch} (hc : (mCl M)[mCi M]? = some (RX10, TX10, 61)) (hf : f_readNumber n x1 x2 σ = some v) : Met l yX10_readNumber (ws_ yX10_readNumber cX10_readNumber 3 (some .boolean)) (rmD 3) (va_Pc [.ref (mO M), .int x1, .int x2] (MU M σ)) (Qm M (some (.int v.1)) v.2) 0 0 (mAd M) :=
  m_met [.ref (mO M), .int x1, .int x2] (by decide) rfl (Nat.le_of_ble_eq_true rfl) hc (fun K hl hR hr C B hQ => w_readNumber_E _ C B hr hR hQ _ _ _ hf)
theorem mc_readNumber {K : KT} {M : MT} {cc : ByteArray} {nL pc dk : Nat} {L : List (Nat × Value)} {rest : List Value} {σ : MS} {v : (Int32 × MS)} {n : Nat} {x1 : Int32} {x2 : Int32} (C : Kok K cc nL RX10) (B : MB K M) (dK : kR K = rmD dk) (hd : 3 + 1 ≤ dk) (hf : f_readNumber n x1 x2 σ = some v) (hW : (rest.map fun v => v.category).sum ≤ 8) (dd : decode cc pc = .ok (.invokevirtual 211, 3)) (kk2 : XJ K nL (Wm K M v.2) (pc + 3) L ((.int v.1) :: rest)) : XJ K nL (Wm K M σ) pc L (.int x2 :: .int x1 :: .ref (mO M) :: rest) :=
  m_callV (rest := rest) (v := (some (.int v.1))) [.int x1, .int x2] 2 rfl C B dK hd (Nat.le_of_ble_eq_true rfl) (lw_V q2046 q2048 qs52 q133 q2049) (by decide +kernel) (met_readNumber B.2 hf) rfl hW dd kk2
def f_readOne (n : Nat) (x1 : Int32) (x2 : Int32) (σ : MS) : Option (Int32 × MS) := (f_isOne n x1 x2 σ).bind fun r1 => if r1.1 = 0 then (some ((0 : Int32), r1.2)) else ((f_go n r1.2).bind fun r3 => some ((1 : Int32), r3))
set_option maxHeartbeats 4000000 in
theorem w_readOne_E {K : KT} {M : MT} {r : Int32} {τ : MS} (n : Nat) (C : Kok K cX10_readOne 3 RX10) (B : MB K M) (hr : (kMe K).sig.returnType = some .boolean) (dK : kR K = rmD 5) (hQ : KQm K M (some (.int r)) τ) (x1 : Int32) (x2 : Int32) (σ : MS) (hf : f_readOne n x1 x2 σ = some (r, τ)) : XJ K 3 (Wm K M σ) 0 [(0, .ref (mO M)), (1, .int x1), (2, .int x2)] [] := by
  unfold f_readOne at hf
  refine x_aload_n C dX10_readOne_0 0 rfl ?_
  refine x_iload_n C dX10_readOne_1 1 rfl ?_
  refine x_iload_n C dX10_readOne_2 2 rfl ?_
  obtain ⟨r1, er1, hf⟩ := pf_b hf
  refine mc_isOne C B dK (Nat.le_of_ble_eq_true rfl) er1 (Nat.le_of_ble_eq_true rfl) dX10_readOne_3 ?_
  refine x_if_ne (tgt := 11) C dX10_readOne_6 (by decide) (fun c2 => ?_) (fun c2 => ?_)
  · have hf := pf_f c2 hf
    refine x_aload_n C dX10_readOne_11 0 rfl ?_
    obtain ⟨r3, er3, hf⟩ := pf_b hf
    refine mc_go C B dK (Nat.le_of_ble_eq_true rfl) er3 (Nat.le_of_ble_eq_true rfl) dX10_readOne_12 ?_
    refine x_iconst (1 : Int32) C dX10_readOne_15 (by decide) ?_
    obtain ⟨rfl, rfl⟩ := Prod.mk.inj (Option.some.inj hf)
    exact m_zret C hr (Or.inr rfl) hQ dX10_readOne_16
  · have hf := pf_t c2 hf
    refine x_iconst (0 : Int32) C dX10_readOne_9 (by decide) ?_
    obtain ⟨rfl, rfl⟩ := Prod.mk.inj (Option.some.inj hf)
    exact m_zret C hr (Or.inl rfl) hQ dX10_readOne_10
theorem bz_readOne_E {r : Int32} {τ : MS} {n : Nat} {x1 : Int32} {x2 : Int32} {σ : MS} (hf : f_readOne n x1 x2 σ = some (r, τ)) : r = 0 ∨ r = 1 := by
  unfold f_readOne at hf
  obtain ⟨r1, er1, hf⟩ := pf_b hf
  by_cases c2 : r1.1 = 0
  · have hf := pf_t c2 hf
    obtain ⟨rfl, rfl⟩ := Prod.mk.inj (Option.some.inj hf)
    exact (Or.inl rfl)
  · have hf := pf_f c2 hf
    obtain ⟨r3, er3, hf⟩ := pf_b hf
    obtain ⟨rfl, rfl⟩ := Prod.mk.inj (Option.some.inj hf)
    exact (Or.inr rfl)
theorem met_readOne {M : MT} {v : (Int32 × MS)} {n : Nat} {σ : MS} {x1 : Int32} {x2 : Int32} {l : Launch} (hc : (mCl M)[mCi M]? = some (RX10, TX10, 61)) (hf : f_readOne n x1 x2 σ = some v) : Met l yX10_readOne (ws_ yX10_readOne cX10_readOne 3 (some .boolean)) (rmD 5) (va_Pc [.ref (mO M), .int x1, .int x2] (MU M σ)) (Qm M (some (.int v.1)) v.2) 0 0 (mAd M) :=
  m_met [.ref (mO M), .int x1, .int x2] (by decide) rfl (Nat.le_of_ble_eq_true rfl) hc (fun K hl hR hr C B hQ => w_readOne_E _ C B hr hR hQ _ _ _ hf)
theorem mc_readOne {K : KT} {M : MT} {cc : ByteArray} {nL pc dk : Nat} {L : List (Nat × Value)} {rest : List Value} {σ : MS} {v : (Int32 × MS)} {n : Nat} {x1 : Int32} {x2 : Int32} (C : Kok K cc nL RX10) (B : MB K M) (dK : kR K = rmD dk) (hd : 5 + 1 ≤ dk) (hf : f_readOne n x1 x2 σ = some v) (hW : (rest.map fun v => v.category).sum ≤ 8) (dd : decode cc pc = .ok (.invokevirtual 218, 3)) (kk2 : XJ K nL (Wm K M v.2) (pc + 3) L ((.int v.1) :: rest)) : XJ K nL (Wm K M σ) pc L (.int x2 :: .int x1 :: .ref (mO M) :: rest) :=
  m_callV (rest := rest) (v := (some (.int v.1))) [.int x1, .int x2] 2 rfl C B dK hd (Nat.le_of_ble_eq_true rfl) (lw_V q2061 q2063 qs55 q133 q2064) (by decide +kernel) (met_readOne B.2 hf) rfl hW dd kk2
def f_readLikes (n : Nat) (σ : MS) : Option (Int32 × MS) := (f_go n σ).bind fun r1 => (f_readOne n (21 : Int32) (ga r1 15 4) r1).bind fun r2 => if r2.1 = 0 then (some ((0 : Int32), r2.2)) else (ev ((5 : Int32) * (gi r2.2 13)) fun v4 => (f_isOne n (8 : Int32) (ga r2.2 15 2) r2.2).bind fun r5 => if r5.1 = 0 then (some ((0 : Int32), r5.2)) else (ev (v4 + (gi r5.2 13)) fun v7 => if inb v7 40 = true then if (ga r5.2 23 (Int32.toNatClampNeg v7)) = 0 then (if inb v7 40 = true then ev (sa r5.2 23 (Int32.toNatClampNeg v7) (vp_nar .boolean (1 : Int32))) fun s11 => (f_go n s11).bind fun r12 => (f_readNumber n (0 : Int32) (12 : Int32) r12).bind fun r13 => (f_put ((86 : Int32) + v7) r13.1 r13.2).bind fun r14 => some (r14.1, r14.2) else none) else (ev (f_bad (3 : Int32) r5.2) fun r15 => some (r15.1, r15.2)) else none))
set_option maxHeartbeats 4000000 in
theorem w_readLikes_E {K : KT} {M : MT} {r : Int32} {τ : MS} (n : Nat) (C : Kok K cX10_readLikes 2 RX10) (B : MB K M) (hr : (kMe K).sig.returnType = some .boolean) (dK : kR K = rmD 6) (hQ : KQm K M (some (.int r)) τ) (σ : MS) (hf : f_readLikes n σ = some (r, τ)) : XJ K 2 (Wm K M σ) 0 [(0, .ref (mO M))] [] := by
  unfold f_readLikes at hf
  refine x_aload_n C dX10_readLikes_0 0 rfl ?_
  obtain ⟨r1, er1, hf⟩ := pf_b hf
  refine mc_go C B dK (Nat.le_of_ble_eq_true rfl) er1 (Nat.le_of_ble_eq_true rfl) dX10_readLikes_1 ?_
  refine x_aload_n C dX10_readLikes_4 0 rfl ?_
  refine x_bipush (21 : Int32) C dX10_readLikes_5 (by decide) ?_
  refine x_aload_n C dX10_readLikes_7 0 rfl ?_
  refine mg_15 C B dX10_readLikes_8 ?_
  refine x_iconst (4 : Int32) C dX10_readLikes_11 (by decide) ?_
  refine mlc_15 4 C B (by decide +kernel) dX10_readLikes_12 ?_
  obtain ⟨r2, er2, hf⟩ := pf_b hf
  refine mc_readOne C B dK (Nat.le_of_ble_eq_true rfl) er2 (Nat.le_of_ble_eq_true rfl) dX10_readLikes_13 ?_
  refine x_if_ne (tgt := 21) C dX10_readLikes_16 (by decide) (fun c3 => ?_) (fun c3 => ?_)
  · have hf := pf_f c3 hf
    refine x_iconst (5 : Int32) C dX10_readLikes_21 (by decide) ?_
    refine x_aload_n C dX10_readLikes_22 0 rfl ?_
    refine mg_13 C B dX10_readLikes_23 ?_
    refine x_imul C dX10_readLikes_26 ?_
    obtain ⟨v4, ev4, hf⟩ := pf_e hf
    refine x_topir ev4 ?_
    refine x_istore_n (L' := [(0, .ref (mO M)), (1, .int v4)]) C dX10_readLikes_27 (Nat.le_of_ble_eq_true rfl) [1, 0] rfl ?_
    refine x_aload_n C dX10_readLikes_28 0 rfl ?_
    refine x_bipush (8 : Int32) C dX10_readLikes_29 (by decide) ?_
    refine x_aload_n C dX10_readLikes_31 0 rfl ?_
    refine mg_15 C B dX10_readLikes_32 ?_
    refine x_iconst (2 : Int32) C dX10_readLikes_35 (by decide) ?_
    refine mlc_15 2 C B (by decide +kernel) dX10_readLikes_36 ?_
    obtain ⟨r5, er5, hf⟩ := pf_b hf
    refine mc_isOne C B dK (Nat.le_of_ble_eq_true rfl) er5 (Nat.le_of_ble_eq_true rfl) dX10_readLikes_37 ?_
    refine x_if_ne (tgt := 45) C dX10_readLikes_40 (by decide) (fun c6 => ?_) (fun c6 => ?_)
    · have hf := pf_f c6 hf
      refine x_iload_n C dX10_readLikes_45 1 rfl ?_
      refine x_aload_n C dX10_readLikes_46 0 rfl ?_
      refine mg_13 C B dX10_readLikes_47 ?_
      refine x_iadd C dX10_readLikes_50 ?_
      obtain ⟨v7, ev7, hf⟩ := pf_e hf
      refine x_topir ev7 ?_
      refine x_istore_n (L' := [(0, .ref (mO M)), (1, .int v7)]) C dX10_readLikes_51 (Nat.le_of_ble_eq_true rfl) [1, 0] rfl ?_
      refine x_aload_n C dX10_readLikes_52 0 rfl ?_
      refine mg_23 C B dX10_readLikes_53 ?_
      refine x_iload_n C dX10_readLikes_56 1 rfl ?_
      obtain ⟨h8, hf⟩ := pf_in hf
      refine ml_23 C B h8 dX10_readLikes_57 ?_
      refine x_if_eq (tgt := 67) C dX10_readLikes_58 (by decide) (fun c9 => ?_) (fun c9 => ?_)
      · have hf := pf_t c9 hf
        refine x_aload_n C dX10_readLikes_67 0 rfl ?_
        refine mg_23 C B dX10_readLikes_68 ?_
        refine x_iload_n C dX10_readLikes_71 1 rfl ?_
        refine x_iconst (1 : Int32) C dX10_readLikes_72 (by decide) ?_
        obtain ⟨h10, hf⟩ := pf_in hf
        refine ms_23 C B h10 dX10_readLikes_73 ?_
        obtain ⟨s11, es11, hf⟩ := pf_e hf
        refine m_ren es11 ?_
        refine x_aload_n C dX10_readLikes_74 0 rfl ?_
        obtain ⟨r12, er12, hf⟩ := pf_b hf
        refine mc_go C B dK (Nat.le_of_ble_eq_true rfl) er12 (Nat.le_of_ble_eq_true rfl) dX10_readLikes_75 ?_
        refine x_aload_n C dX10_readLikes_78 0 rfl ?_
        refine x_bipush (86 : Int32) C dX10_readLikes_79 (by decide) ?_
        refine x_iload_n C dX10_readLikes_81 1 rfl ?_
        refine x_iadd C dX10_readLikes_82 ?_
        refine x_aload_n C dX10_readLikes_83 0 rfl ?_
        refine x_iconst (0 : Int32) C dX10_readLikes_84 (by decide) ?_
        refine x_bipush (12 : Int32) C dX10_readLikes_85 (by decide) ?_
        obtain ⟨r13, er13, hf⟩ := pf_b hf
        refine mc_readNumber C B dK (Nat.le_of_ble_eq_true rfl) er13 (Nat.le_of_ble_eq_true rfl) dX10_readLikes_87 ?_
        obtain ⟨r14, er14, hf⟩ := pf_b hf
        refine mc_put C B dK (Nat.le_of_ble_eq_true rfl) (bz_readNumber_E er13) er14 (Nat.le_of_ble_eq_true rfl) dX10_readLikes_90 ?_
        obtain ⟨rfl, rfl⟩ := Prod.mk.inj (Option.some.inj hf)
        exact m_zret C hr (bz_put_E (bz_readNumber_E er13) er14) hQ dX10_readLikes_93
      · have hf := pf_f c9 hf
        refine x_aload_n C dX10_readLikes_61 0 rfl ?_
        refine x_iconst (3 : Int32) C dX10_readLikes_62 (by decide) ?_
        obtain ⟨r15, er15, hf⟩ := pf_e hf
        refine mc_bad C B dK (Nat.le_of_ble_eq_true rfl) er15.symm (Nat.le_of_ble_eq_true rfl) dX10_readLikes_63 ?_
        obtain ⟨rfl, rfl⟩ := Prod.mk.inj (Option.some.inj hf)
        exact m_zret C hr (bz_bad_E er15.symm) hQ dX10_readLikes_66
    · have hf := pf_t c6 hf
      refine x_iconst (0 : Int32) C dX10_readLikes_43 (by decide) ?_
      obtain ⟨rfl, rfl⟩ := Prod.mk.inj (Option.some.inj hf)
      exact m_zret C hr (Or.inl rfl) hQ dX10_readLikes_44
  · have hf := pf_t c3 hf
    refine x_iconst (0 : Int32) C dX10_readLikes_19 (by decide) ?_
    obtain ⟨rfl, rfl⟩ := Prod.mk.inj (Option.some.inj hf)
    exact m_zret C hr (Or.inl rfl) hQ dX10_readLikes_20
theorem bz_readLikes_E {r : Int32} {τ : MS} {n : Nat} {σ : MS} (hf : f_readLikes n σ = some (r, τ)) : r = 0 ∨ r = 1 := by
  unfold f_readLikes at hf
  obtain ⟨r1, er1, hf⟩ := pf_b hf
  obtain ⟨r2, er2, hf⟩ := pf_b hf
  by_cases c3 : r2.1 = 0
  · have hf := pf_t c3 hf
    obtain ⟨rfl, rfl⟩ := Prod.mk.inj (Option.some.inj hf)
    exact (Or.inl rfl)
  · have hf := pf_f c3 hf
    obtain ⟨v4, ev4, hf⟩ := pf_e hf
    obtain ⟨r5, er5, hf⟩ := pf_b hf
    by_cases c6 : r5.1 = 0
    · have hf := pf_t c6 hf
      obtain ⟨rfl, rfl⟩ := Prod.mk.inj (Option.some.inj hf)
      exact (Or.inl rfl)
    · have hf := pf_f c6 hf
      obtain ⟨v7, ev7, hf⟩ := pf_e hf
      obtain ⟨h8, hf⟩ := pf_in hf
      by_cases c9 : (ga r5.2 23 (Int32.toNatClampNeg v7)) = 0
      · have hf := pf_t c9 hf
        obtain ⟨h10, hf⟩ := pf_in hf
        obtain ⟨s11, es11, hf⟩ := pf_e hf
        obtain ⟨r12, er12, hf⟩ := pf_b hf
        obtain ⟨r13, er13, hf⟩ := pf_b hf
        obtain ⟨r14, er14, hf⟩ := pf_b hf
        obtain ⟨rfl, rfl⟩ := Prod.mk.inj (Option.some.inj hf)
        exact (bz_put_E (bz_readNumber_E er13) er14)
      · have hf := pf_f c9 hf
        obtain ⟨r15, er15, hf⟩ := pf_e hf
        obtain ⟨rfl, rfl⟩ := Prod.mk.inj (Option.some.inj hf)
        exact (bz_bad_E er15.symm)
theorem met_readLikes {M : MT} {v : (Int32 × MS)} {n : Nat} {σ : MS} {l : Launch} (hc : (mCl M)[mCi M]? = some (RX10, TX10, 61)) (hf : f_readLikes n σ = some v) : Met l yX10_readLikes (ws_ yX10_readLikes cX10_readLikes 2 (some .boolean)) (rmD 6) (va_Pc [.ref (mO M)] (MU M σ)) (Qm M (some (.int v.1)) v.2) 0 0 (mAd M) :=
  m_met [.ref (mO M)] (by decide) rfl (Nat.le_of_ble_eq_true rfl) hc (fun K hl hR hr C B hQ => w_readLikes_E _ C B hr hR hQ _ hf)
theorem mc_readLikes {K : KT} {M : MT} {cc : ByteArray} {nL pc dk : Nat} {L : List (Nat × Value)} {rest : List Value} {σ : MS} {v : (Int32 × MS)} {n : Nat} (C : Kok K cc nL RX10) (B : MB K M) (dK : kR K = rmD dk) (hd : 6 + 1 ≤ dk) (hf : f_readLikes n σ = some v) (hW : (rest.map fun v => v.category).sum ≤ 8) (dd : decode cc pc = .ok (.invokevirtual 242, 3)) (kk2 : XJ K nL (Wm K M v.2) (pc + 3) L ((.int v.1) :: rest)) : XJ K nL (Wm K M σ) pc L (.ref (mO M) :: rest) :=
  m_callV (rest := rest) (v := (some (.int v.1))) [] 0 rfl C B dK hd (Nat.le_of_ble_eq_true rfl) (lw_V q2084 q2086 qs60 q133 q2087) (by decide +kernel) (met_readLikes B.2 hf) rfl hW dd kk2
def f_readPath (n : Nat) (σ : MS) : Option (Int32 × MS) := (f_readFirst n (1 : Int32) (16 : Int32) σ).bind fun r1 => if r1.1 = 0 then (some ((0 : Int32), r1.2)) else ((f_readOne n (0 : Int32) (ga r1.2 15 0) r1.2).bind fun r3 => if r3.1 = 0 then (some ((0 : Int32), r3.2)) else (ev (gi r3.2 13) fun v5 => (f_isOne n (0 : Int32) (ga r3.2 15 0) r3.2).bind fun r6 => if r6.1 = 0 then (some ((0 : Int32), r6.2)) else (ev (gi r6.2 13) fun v8 => if v5 = v8 then (ev (f_bad (3 : Int32) r6.2) fun r10 => some (r10.1, r10.2)) else (if inb ((14 : Int32) + v5) 198 = true then if (f_has (ga r6.2 15 (Int32.toNatClampNeg ((14 : Int32) + v5))) v8) = 0 then ((f_go n r6.2).bind fun r13 => if inb ((14 : Int32) + v5) 198 = true then if inb ((14 : Int32) + v5) 198 = true then ev (sa r13 15 (Int32.toNatClampNeg ((14 : Int32) + v5)) ((ga r13 15 (Int32.toNatClampNeg ((14 : Int32) + v5))) ||| ((1 : Int32) <<< (v8 &&& 31)))) fun s16 => if inb ((14 : Int32) + v8) 198 = true then if inb ((14 : Int32) + v8) 198 = true then ev (sa s16 15 (Int32.toNatClampNeg ((14 : Int32) + v8)) ((ga s16 15 (Int32.toNatClampNeg ((14 : Int32) + v8))) ||| ((1 : Int32) <<< (v5 &&& 31)))) fun s19 => ev (sa s19 15 1 ((ga s19 15 1) + (1 : Int32))) fun s20 => some ((1 : Int32), s20) else none else none else none else none) else (ev (f_bad (3 : Int32) r6.2) fun r21 => some (r21.1, r21.2)) else none))))
set_option maxHeartbeats 4000000 in
theorem w_readPath_E {K : KT} {M : MT} {r : Int32} {τ : MS} (n : Nat) (C : Kok K cX10_readPath 3 RX10) (B : MB K M) (hr : (kMe K).sig.returnType = some .boolean) (dK : kR K = rmD 6) (hQ : KQm K M (some (.int r)) τ) (σ : MS) (hf : f_readPath n σ = some (r, τ)) : XJ K 3 (Wm K M σ) 0 [(0, .ref (mO M))] [] := by
  unfold f_readPath at hf
  refine x_aload_n C dX10_readPath_0 0 rfl ?_
  refine x_iconst (1 : Int32) C dX10_readPath_1 (by decide) ?_
  refine x_bipush (16 : Int32) C dX10_readPath_2 (by decide) ?_
  obtain ⟨r1, er1, hf⟩ := pf_b hf
  refine mc_readFirst C B dK (Nat.le_of_ble_eq_true rfl) er1 (Nat.le_of_ble_eq_true rfl) dX10_readPath_4 ?_
  refine x_if_eq (tgt := 24) C dX10_readPath_7 (by decide) (fun c2 => ?_) (fun c2 => ?_)
  · have hf := pf_t c2 hf
    refine x_iconst (0 : Int32) C dX10_readPath_24 (by decide) ?_
    obtain ⟨rfl, rfl⟩ := Prod.mk.inj (Option.some.inj hf)
    exact m_zret C hr (Or.inl rfl) hQ dX10_readPath_25
  · have hf := pf_f c2 hf
    refine x_aload_n C dX10_readPath_10 0 rfl ?_
    refine x_iconst (0 : Int32) C dX10_readPath_11 (by decide) ?_
    refine x_aload_n C dX10_readPath_12 0 rfl ?_
    refine mg_15 C B dX10_readPath_13 ?_
    refine x_iconst (0 : Int32) C dX10_readPath_16 (by decide) ?_
    refine mlc_15 0 C B (by decide +kernel) dX10_readPath_17 ?_
    obtain ⟨r3, er3, hf⟩ := pf_b hf
    refine mc_readOne C B dK (Nat.le_of_ble_eq_true rfl) er3 (Nat.le_of_ble_eq_true rfl) dX10_readPath_18 ?_
    refine x_if_ne (tgt := 26) C dX10_readPath_21 (by decide) (fun c4 => ?_) (fun c4 => ?_)
    · have hf := pf_f c4 hf
      refine x_aload_n C dX10_readPath_26 0 rfl ?_
      refine mg_13 C B dX10_readPath_27 ?_
      obtain ⟨v5, ev5, hf⟩ := pf_e hf
      refine x_topir ev5 ?_
      refine x_istore_n (L' := [(0, .ref (mO M)), (1, .int v5)]) C dX10_readPath_30 (Nat.le_of_ble_eq_true rfl) [1, 0] rfl ?_
      refine x_aload_n C dX10_readPath_31 0 rfl ?_
      refine x_iconst (0 : Int32) C dX10_readPath_32 (by decide) ?_
      refine x_aload_n C dX10_readPath_33 0 rfl ?_
      refine mg_15 C B dX10_readPath_34 ?_
      refine x_iconst (0 : Int32) C dX10_readPath_37 (by decide) ?_
      refine mlc_15 0 C B (by decide +kernel) dX10_readPath_38 ?_
      obtain ⟨r6, er6, hf⟩ := pf_b hf
      refine mc_isOne C B dK (Nat.le_of_ble_eq_true rfl) er6 (Nat.le_of_ble_eq_true rfl) dX10_readPath_39 ?_
      refine x_if_ne (tgt := 47) C dX10_readPath_42 (by decide) (fun c7 => ?_) (fun c7 => ?_)
      · have hf := pf_f c7 hf
        refine x_aload_n C dX10_readPath_47 0 rfl ?_
        refine mg_13 C B dX10_readPath_48 ?_
        obtain ⟨v8, ev8, hf⟩ := pf_e hf
        refine x_topir ev8 ?_
        refine x_istore_n (L' := [(0, .ref (mO M)), (1, .int v5), (2, .int v8)]) C dX10_readPath_51 (Nat.le_of_ble_eq_true rfl) [1, 2, 0] rfl ?_
        refine x_iload_n C dX10_readPath_52 1 rfl ?_
        refine x_iload_n C dX10_readPath_53 2 rfl ?_
        refine x_icmp_eq (tgt := 73) C dX10_readPath_54 (by decide) (fun c9 => ?_) (fun c9 => ?_)
        · have hf := pf_t c9 hf
          refine x_aload_n C dX10_readPath_73 0 rfl ?_
          refine x_iconst (3 : Int32) C dX10_readPath_74 (by decide) ?_
          obtain ⟨r10, er10, hf⟩ := pf_e hf
          refine mc_bad C B dK (Nat.le_of_ble_eq_true rfl) er10.symm (Nat.le_of_ble_eq_true rfl) dX10_readPath_75 ?_
          obtain ⟨rfl, rfl⟩ := Prod.mk.inj (Option.some.inj hf)
          exact m_zret C hr (bz_bad_E er10.symm) hQ dX10_readPath_78
        · have hf := pf_f c9 hf
          refine x_aload_n C dX10_readPath_57 0 rfl ?_
          refine mg_15 C B dX10_readPath_58 ?_
          refine x_bipush (14 : Int32) C dX10_readPath_61 (by decide) ?_
          refine x_iload_n C dX10_readPath_63 1 rfl ?_
          refine x_iadd C dX10_readPath_64 ?_
          obtain ⟨h11, hf⟩ := pf_in hf
          refine ml_15 C B h11 dX10_readPath_65 ?_
          refine x_iload_n C dX10_readPath_66 2 rfl ?_
          refine mc_has C B dK (Nat.le_of_ble_eq_true rfl) rfl (Nat.le_of_ble_eq_true rfl) dX10_readPath_67 ?_
          refine x_if_eq (tgt := 79) C dX10_readPath_70 (by decide) (fun c12 => ?_) (fun c12 => ?_)
          · have hf := pf_t c12 hf
            refine x_aload_n C dX10_readPath_79 0 rfl ?_
            obtain ⟨r13, er13, hf⟩ := pf_b hf
            refine mc_go C B dK (Nat.le_of_ble_eq_true rfl) er13 (Nat.le_of_ble_eq_true rfl) dX10_readPath_80 ?_
            refine x_aload_n C dX10_readPath_83 0 rfl ?_
            refine mg_15 C B dX10_readPath_84 ?_
            refine x_bipush (14 : Int32) C dX10_readPath_87 (by decide) ?_
            refine x_iload_n C dX10_readPath_89 1 rfl ?_
            refine x_iadd C dX10_readPath_90 ?_
            refine x_dup2_11 C dX10_readPath_91 rfl rfl ?_
            obtain ⟨h14, hf⟩ := pf_in hf
            refine ml_15 C B h14 dX10_readPath_92 ?_
            refine x_iconst (1 : Int32) C dX10_readPath_93 (by decide) ?_
            refine x_iload_n C dX10_readPath_94 2 rfl ?_
            refine x_ishl C dX10_readPath_95 ?_
            refine x_ior C dX10_readPath_96 ?_
            obtain ⟨h15, hf⟩ := pf_in hf
            refine ms_15 C B h15 dX10_readPath_97 ?_
            obtain ⟨s16, es16, hf⟩ := pf_e hf
            refine m_ren es16 ?_
            refine x_aload_n C dX10_readPath_98 0 rfl ?_
            refine mg_15 C B dX10_readPath_99 ?_
            refine x_bipush (14 : Int32) C dX10_readPath_102 (by decide) ?_
            refine x_iload_n C dX10_readPath_104 2 rfl ?_
            refine x_iadd C dX10_readPath_105 ?_
            refine x_dup2_11 C dX10_readPath_106 rfl rfl ?_
            obtain ⟨h17, hf⟩ := pf_in hf
            refine ml_15 C B h17 dX10_readPath_107 ?_
            refine x_iconst (1 : Int32) C dX10_readPath_108 (by decide) ?_
            refine x_iload_n C dX10_readPath_109 1 rfl ?_
            refine x_ishl C dX10_readPath_110 ?_
            refine x_ior C dX10_readPath_111 ?_
            obtain ⟨h18, hf⟩ := pf_in hf
            refine ms_15 C B h18 dX10_readPath_112 ?_
            obtain ⟨s19, es19, hf⟩ := pf_e hf
            refine m_ren es19 ?_
            refine x_aload_n C dX10_readPath_113 0 rfl ?_
            refine mg_15 C B dX10_readPath_114 ?_
            refine x_iconst (1 : Int32) C dX10_readPath_117 (by decide) ?_
            refine x_dup2_11 C dX10_readPath_118 rfl rfl ?_
            refine mlc_15 1 C B (by decide +kernel) dX10_readPath_119 ?_
            refine x_iconst (1 : Int32) C dX10_readPath_120 (by decide) ?_
            refine x_iadd C dX10_readPath_121 ?_
            refine msc_15 1 C B (by decide +kernel) dX10_readPath_122 ?_
            obtain ⟨s20, es20, hf⟩ := pf_e hf
            refine m_ren es20 ?_
            refine x_iconst (1 : Int32) C dX10_readPath_123 (by decide) ?_
            obtain ⟨rfl, rfl⟩ := Prod.mk.inj (Option.some.inj hf)
            exact m_zret C hr (Or.inr rfl) hQ dX10_readPath_124
          · have hf := pf_f c12 hf
            refine x_aload_n C dX10_readPath_73 0 rfl ?_
            refine x_iconst (3 : Int32) C dX10_readPath_74 (by decide) ?_
            obtain ⟨r21, er21, hf⟩ := pf_e hf
            refine mc_bad C B dK (Nat.le_of_ble_eq_true rfl) er21.symm (Nat.le_of_ble_eq_true rfl) dX10_readPath_75 ?_
            obtain ⟨rfl, rfl⟩ := Prod.mk.inj (Option.some.inj hf)
            exact m_zret C hr (bz_bad_E er21.symm) hQ dX10_readPath_78
      · have hf := pf_t c7 hf
        refine x_iconst (0 : Int32) C dX10_readPath_45 (by decide) ?_
        obtain ⟨rfl, rfl⟩ := Prod.mk.inj (Option.some.inj hf)
        exact m_zret C hr (Or.inl rfl) hQ dX10_readPath_46
    · have hf := pf_t c4 hf
      refine x_iconst (0 : Int32) C dX10_readPath_24 (by decide) ?_
      obtain ⟨rfl, rfl⟩ := Prod.mk.inj (Option.some.inj hf)
      exact m_zret C hr (Or.inl rfl) hQ dX10_readPath_25
theorem bz_readPath_E {r : Int32} {τ : MS} {n : Nat} {σ : MS} (hf : f_readPath n σ = some (r, τ)) : r = 0 ∨ r = 1 := by
  unfold f_readPath at hf
  obtain ⟨r1, er1, hf⟩ := pf_b hf
  by_cases c2 : r1.1 = 0
  · have hf := pf_t c2 hf
    obtain ⟨rfl, rfl⟩ := Prod.mk.inj (Option.some.inj hf)
    exact (Or.inl rfl)
  · have hf := pf_f c2 hf
    obtain ⟨r3, er3, hf⟩ := pf_b hf
    by_cases c4 : r3.1 = 0
    · have hf := pf_t c4 hf
      obtain ⟨rfl, rfl⟩ := Prod.mk.inj (Option.some.inj hf)
      exact (Or.inl rfl)
    · have hf := pf_f c4 hf
      obtain ⟨v5, ev5, hf⟩ := pf_e hf
      obtain ⟨r6, er6, hf⟩ := pf_b hf
      by_cases c7 : r6.1 = 0
      · have hf := pf_t c7 hf
        obtain ⟨rfl, rfl⟩ := Prod.mk.inj (Option.some.inj hf)
        exact (Or.inl rfl)
      · have hf := pf_f c7 hf
        obtain ⟨v8, ev8, hf⟩ := pf_e hf
        by_cases c9 : v5 = v8
        · have hf := pf_t c9 hf
          obtain ⟨r10, er10, hf⟩ := pf_e hf
          obtain ⟨rfl, rfl⟩ := Prod.mk.inj (Option.some.inj hf)
          exact (bz_bad_E er10.symm)
        · have hf := pf_f c9 hf
          obtain ⟨h11, hf⟩ := pf_in hf
          by_cases c12 : (f_has (ga r6.2 15 (Int32.toNatClampNeg ((14 : Int32) + v5))) v8) = 0
          · have hf := pf_t c12 hf
            obtain ⟨r13, er13, hf⟩ := pf_b hf
            obtain ⟨h14, hf⟩ := pf_in hf
            obtain ⟨h15, hf⟩ := pf_in hf
            obtain ⟨s16, es16, hf⟩ := pf_e hf
            obtain ⟨h17, hf⟩ := pf_in hf
            obtain ⟨h18, hf⟩ := pf_in hf
            obtain ⟨s19, es19, hf⟩ := pf_e hf
            obtain ⟨s20, es20, hf⟩ := pf_e hf
            obtain ⟨rfl, rfl⟩ := Prod.mk.inj (Option.some.inj hf)
            exact (Or.inr rfl)
          · have hf := pf_f c12 hf
            obtain ⟨r21, er21, hf⟩ := pf_e hf
            obtain ⟨rfl, rfl⟩ := Prod.mk.inj (Option.some.inj hf)
            exact (bz_bad_E er21.symm)
theorem met_readPath {M : MT} {v : (Int32 × MS)} {n : Nat} {σ : MS} {l : Launch} (hc : (mCl M)[mCi M]? = some (RX10, TX10, 61)) (hf : f_readPath n σ = some v) : Met l yX10_readPath (ws_ yX10_readPath cX10_readPath 3 (some .boolean)) (rmD 6) (va_Pc [.ref (mO M)] (MU M σ)) (Qm M (some (.int v.1)) v.2) 0 0 (mAd M) :=
  m_met [.ref (mO M)] (by decide) rfl (Nat.le_of_ble_eq_true rfl) hc (fun K hl hR hr C B hQ => w_readPath_E _ C B hr hR hQ _ hf)
theorem mc_readPath {K : KT} {M : MT} {cc : ByteArray} {nL pc dk : Nat} {L : List (Nat × Value)} {rest : List Value} {σ : MS} {v : (Int32 × MS)} {n : Nat} (C : Kok K cc nL RX10) (B : MB K M) (dK : kR K = rmD dk) (hd : 6 + 1 ≤ dk) (hf : f_readPath n σ = some v) (hW : (rest.map fun v => v.category).sum ≤ 8) (dd : decode cc pc = .ok (.invokevirtual 230, 3)) (kk2 : XJ K nL (Wm K M v.2) (pc + 3) L ((.int v.1) :: rest)) : XJ K nL (Wm K M σ) pc L (.ref (mO M) :: rest) :=
  m_callV (rest := rest) (v := (some (.int v.1))) [] 0 rfl C B dK hd (Nat.le_of_ble_eq_true rfl) (lw_V q2057 q2059 qs54 q133 q2060) (by decide +kernel) (met_readPath B.2 hf) rfl hW dd kk2
def f_readSquare (n : Nat) (σ : MS) : Option (Int32 × MS) := (f_readFirst n (0 : Int32) (8 : Int32) σ).bind fun r1 => if r1.1 = 0 then (some ((0 : Int32), r1.2)) else (ev (ga r1.2 15 0) fun v3 => (f_readNew n v3 r1.2).bind fun r4 => if r4.1 = 0 then (some ((0 : Int32), r4.2)) else ((f_readNumber n (0 : Int32) (99 : Int32) r4.2).bind fun r6 => (f_put ((6 : Int32) + v3) r6.1 r6.2).bind fun r7 => if r7.1 = 0 then (some ((0 : Int32), r7.2)) else (ev (sa r7.2 15 0 ((ga r7.2 15 0) + (1 : Int32))) fun s9 => some ((1 : Int32), s9))))
set_option maxHeartbeats 4000000 in
theorem w_readSquare_E {K : KT} {M : MT} {r : Int32} {τ : MS} (n : Nat) (C : Kok K cX10_readSquare 2 RX10) (B : MB K M) (hr : (kMe K).sig.returnType = some .boolean) (dK : kR K = rmD 5) (hQ : KQm K M (some (.int r)) τ) (σ : MS) (hf : f_readSquare n σ = some (r, τ)) : XJ K 2 (Wm K M σ) 0 [(0, .ref (mO M))] [] := by
  unfold f_readSquare at hf
  refine x_aload_n C dX10_readSquare_0 0 rfl ?_
  refine x_iconst (0 : Int32) C dX10_readSquare_1 (by decide) ?_
  refine x_bipush (8 : Int32) C dX10_readSquare_2 (by decide) ?_
  obtain ⟨r1, er1, hf⟩ := pf_b hf
  refine mc_readFirst C B dK (Nat.le_of_ble_eq_true rfl) er1 (Nat.le_of_ble_eq_true rfl) dX10_readSquare_4 ?_
  refine x_if_ne (tgt := 12) C dX10_readSquare_7 (by decide) (fun c2 => ?_) (fun c2 => ?_)
  · have hf := pf_f c2 hf
    refine x_aload_n C dX10_readSquare_12 0 rfl ?_
    refine mg_15 C B dX10_readSquare_13 ?_
    refine x_iconst (0 : Int32) C dX10_readSquare_16 (by decide) ?_
    refine mlc_15 0 C B (by decide +kernel) dX10_readSquare_17 ?_
    obtain ⟨v3, ev3, hf⟩ := pf_e hf
    refine x_topir ev3 ?_
    refine x_istore_n (L' := [(0, .ref (mO M)), (1, .int v3)]) C dX10_readSquare_18 (Nat.le_of_ble_eq_true rfl) [1, 0] rfl ?_
    refine x_aload_n C dX10_readSquare_19 0 rfl ?_
    refine x_iload_n C dX10_readSquare_20 1 rfl ?_
    obtain ⟨r4, er4, hf⟩ := pf_b hf
    refine mc_readNew C B dK (Nat.le_of_ble_eq_true rfl) er4 (Nat.le_of_ble_eq_true rfl) dX10_readSquare_21 ?_
    refine x_if_eq (tgt := 45) C dX10_readSquare_24 (by decide) (fun c5 => ?_) (fun c5 => ?_)
    · have hf := pf_t c5 hf
      refine x_iconst (0 : Int32) C dX10_readSquare_45 (by decide) ?_
      obtain ⟨rfl, rfl⟩ := Prod.mk.inj (Option.some.inj hf)
      exact m_zret C hr (Or.inl rfl) hQ dX10_readSquare_46
    · have hf := pf_f c5 hf
      refine x_aload_n C dX10_readSquare_27 0 rfl ?_
      refine x_bipush (6 : Int32) C dX10_readSquare_28 (by decide) ?_
      refine x_iload_n C dX10_readSquare_30 1 rfl ?_
      refine x_iadd C dX10_readSquare_31 ?_
      refine x_aload_n C dX10_readSquare_32 0 rfl ?_
      refine x_iconst (0 : Int32) C dX10_readSquare_33 (by decide) ?_
      refine x_bipush (99 : Int32) C dX10_readSquare_34 (by decide) ?_
      obtain ⟨r6, er6, hf⟩ := pf_b hf
      refine mc_readNumber C B dK (Nat.le_of_ble_eq_true rfl) er6 (Nat.le_of_ble_eq_true rfl) dX10_readSquare_36 ?_
      obtain ⟨r7, er7, hf⟩ := pf_b hf
      refine mc_put C B dK (Nat.le_of_ble_eq_true rfl) (bz_readNumber_E er6) er7 (Nat.le_of_ble_eq_true rfl) dX10_readSquare_39 ?_
      refine x_if_ne (tgt := 47) C dX10_readSquare_42 (by decide) (fun c8 => ?_) (fun c8 => ?_)
      · have hf := pf_f c8 hf
        refine x_aload_n C dX10_readSquare_47 0 rfl ?_
        refine mg_15 C B dX10_readSquare_48 ?_
        refine x_iconst (0 : Int32) C dX10_readSquare_51 (by decide) ?_
        refine x_dup2_11 C dX10_readSquare_52 rfl rfl ?_
        refine mlc_15 0 C B (by decide +kernel) dX10_readSquare_53 ?_
        refine x_iconst (1 : Int32) C dX10_readSquare_54 (by decide) ?_
        refine x_iadd C dX10_readSquare_55 ?_
        refine msc_15 0 C B (by decide +kernel) dX10_readSquare_56 ?_
        obtain ⟨s9, es9, hf⟩ := pf_e hf
        refine m_ren es9 ?_
        refine x_iconst (1 : Int32) C dX10_readSquare_57 (by decide) ?_
        obtain ⟨rfl, rfl⟩ := Prod.mk.inj (Option.some.inj hf)
        exact m_zret C hr (Or.inr rfl) hQ dX10_readSquare_58
      · have hf := pf_t c8 hf
        refine x_iconst (0 : Int32) C dX10_readSquare_45 (by decide) ?_
        obtain ⟨rfl, rfl⟩ := Prod.mk.inj (Option.some.inj hf)
        exact m_zret C hr (Or.inl rfl) hQ dX10_readSquare_46
  · have hf := pf_t c2 hf
    refine x_iconst (0 : Int32) C dX10_readSquare_10 (by decide) ?_
    obtain ⟨rfl, rfl⟩ := Prod.mk.inj (Option.some.inj hf)
    exact m_zret C hr (Or.inl rfl) hQ dX10_readSquare_11
theorem bz_readSquare_E {r : Int32} {τ : MS} {n : Nat} {σ : MS} (hf : f_readSquare n σ = some (r, τ)) : r = 0 ∨ r = 1 := by
  unfold f_readSquare at hf
  obtain ⟨r1, er1, hf⟩ := pf_b hf
  by_cases c2 : r1.1 = 0
  · have hf := pf_t c2 hf
    obtain ⟨rfl, rfl⟩ := Prod.mk.inj (Option.some.inj hf)
    exact (Or.inl rfl)
  · have hf := pf_f c2 hf
    obtain ⟨v3, ev3, hf⟩ := pf_e hf
    obtain ⟨r4, er4, hf⟩ := pf_b hf
    by_cases c5 : r4.1 = 0
    · have hf := pf_t c5 hf
      obtain ⟨rfl, rfl⟩ := Prod.mk.inj (Option.some.inj hf)
      exact (Or.inl rfl)
    · have hf := pf_f c5 hf
      obtain ⟨r6, er6, hf⟩ := pf_b hf
      obtain ⟨r7, er7, hf⟩ := pf_b hf
      by_cases c8 : r7.1 = 0
      · have hf := pf_t c8 hf
        obtain ⟨rfl, rfl⟩ := Prod.mk.inj (Option.some.inj hf)
        exact (Or.inl rfl)
      · have hf := pf_f c8 hf
        obtain ⟨s9, es9, hf⟩ := pf_e hf
        obtain ⟨rfl, rfl⟩ := Prod.mk.inj (Option.some.inj hf)
        exact (Or.inr rfl)
theorem met_readSquare {M : MT} {v : (Int32 × MS)} {n : Nat} {σ : MS} {l : Launch} (hc : (mCl M)[mCi M]? = some (RX10, TX10, 61)) (hf : f_readSquare n σ = some v) : Met l yX10_readSquare (ws_ yX10_readSquare cX10_readSquare 2 (some .boolean)) (rmD 5) (va_Pc [.ref (mO M)] (MU M σ)) (Qm M (some (.int v.1)) v.2) 0 0 (mAd M) :=
  m_met [.ref (mO M)] (by decide) rfl (Nat.le_of_ble_eq_true rfl) hc (fun K hl hR hr C B hQ => w_readSquare_E _ C B hr hR hQ _ hf)
theorem mc_readSquare {K : KT} {M : MT} {cc : ByteArray} {nL pc dk : Nat} {L : List (Nat × Value)} {rest : List Value} {σ : MS} {v : (Int32 × MS)} {n : Nat} (C : Kok K cc nL RX10) (B : MB K M) (dK : kR K = rmD dk) (hd : 5 + 1 ≤ dk) (hf : f_readSquare n σ = some v) (hW : (rest.map fun v => v.category).sum ≤ 8) (dd : decode cc pc = .ok (.invokevirtual 227, 3)) (kk2 : XJ K nL (Wm K M v.2) (pc + 3) L ((.int v.1) :: rest)) : XJ K nL (Wm K M σ) pc L (.ref (mO M) :: rest) :=
  m_callV (rest := rest) (v := (some (.int v.1))) [] 0 rfl C B dK hd (Nat.le_of_ble_eq_true rfl) (lw_V q2023 q2025 qs47 q133 q2026) (by decide +kernel) (met_readSquare B.2 hf) rfl hW dd kk2
def f_readStatue_71 (n : Nat) : Nat → Int32 → Int32 → MS → Option (Int32 × MS)
  | 0, _, _, _ => none
  | m + 1, x1, x2, σ => if x1 ≤ x2 then (if inb ((30 : Int32) + x1) 198 = true then ev (sa σ 15 (Int32.toNatClampNeg ((30 : Int32) + x1)) (gi σ 13)) fun s3 => (f_go n s3).bind fun r4 => (f_readNumber n (0 : Int32) (999 : Int32) r4).bind fun r5 => (f_put ((38 : Int32) + x1) r5.1 r5.2).bind fun r6 => if r6.1 = 0 then (some ((0 : Int32), r6.2)) else ((f_readNumber n (0 : Int32) (99 : Int32) r6.2).bind fun r8 => (f_put ((46 : Int32) + x1) r8.1 r8.2).bind fun r9 => if r9.1 = 0 then (some ((0 : Int32), r9.2)) else (ev (sa r9.2 15 3 ((ga r9.2 15 3) + (1 : Int32))) fun s11 => some ((1 : Int32), s11))) else none) else (if inb ((30 : Int32) + x2) 198 = true then if (ga σ 15 (Int32.toNatClampNeg ((30 : Int32) + x2))) = (gi σ 13) then (ev (f_bad (3 : Int32) σ) fun r14 => some (r14.1, r14.2)) else (f_readStatue_71 n m x1 (x2 + (1 : Int32)) σ) else none)
set_option maxHeartbeats 4000000 in
theorem w_readStatue_71 {K : KT} {M : MT} {r : Int32} {τ : MS} (n : Nat) (C : Kok K cX10_readStatue 3 RX10) (B : MB K M) (hr : (kMe K).sig.returnType = some .boolean) (dK : kR K = rmD 6) (hQ : KQm K M (some (.int r)) τ) : ∀ (m : Nat) (x1 : Int32) (x2 : Int32) (σ : MS) (hf : f_readStatue_71 n m x1 x2 σ = some (r, τ)), XJ K 3 (Wm K M σ) 71 [(0, .ref (mO M)), (1, .int x1), (2, .int x2)] [] := by
  intro m
  induction m with
  | zero => intro x1 x2 σ hf; cases hf
  | succ m ih =>
    intro x1 x2 σ hf
    rw [f_readStatue_71] at hf
    refine x_iload_n C dX10_readStatue_71 2 rfl ?_
    refine x_iload_n C dX10_readStatue_72 1 rfl ?_
    refine x_icmp_ge (tgt := 104) C dX10_readStatue_73 (by decide) (fun c1 => ?_) (fun c1 => ?_)
    · have hf := pf_t c1 hf
      refine x_aload_n C dX10_readStatue_104 0 rfl ?_
      refine mg_15 C B dX10_readStatue_105 ?_
      refine x_bipush (30 : Int32) C dX10_readStatue_108 (by decide) ?_
      refine x_iload_n C dX10_readStatue_110 1 rfl ?_
      refine x_iadd C dX10_readStatue_111 ?_
      refine x_aload_n C dX10_readStatue_112 0 rfl ?_
      refine mg_13 C B dX10_readStatue_113 ?_
      obtain ⟨h2, hf⟩ := pf_in hf
      refine ms_15 C B h2 dX10_readStatue_116 ?_
      obtain ⟨s3, es3, hf⟩ := pf_e hf
      refine m_ren es3 ?_
      refine x_aload_n C dX10_readStatue_117 0 rfl ?_
      obtain ⟨r4, er4, hf⟩ := pf_b hf
      refine mc_go C B dK (Nat.le_of_ble_eq_true rfl) er4 (Nat.le_of_ble_eq_true rfl) dX10_readStatue_118 ?_
      refine x_aload_n C dX10_readStatue_121 0 rfl ?_
      refine x_bipush (38 : Int32) C dX10_readStatue_122 (by decide) ?_
      refine x_iload_n C dX10_readStatue_124 1 rfl ?_
      refine x_iadd C dX10_readStatue_125 ?_
      refine x_aload_n C dX10_readStatue_126 0 rfl ?_
      refine x_iconst (0 : Int32) C dX10_readStatue_127 (by decide) ?_
      refine x_sipush (999 : Int32) C dX10_readStatue_128 (by decide) ?_
      obtain ⟨r5, er5, hf⟩ := pf_b hf
      refine mc_readNumber C B dK (Nat.le_of_ble_eq_true rfl) er5 (Nat.le_of_ble_eq_true rfl) dX10_readStatue_131 ?_
      obtain ⟨r6, er6, hf⟩ := pf_b hf
      refine mc_put C B dK (Nat.le_of_ble_eq_true rfl) (bz_readNumber_E er5) er6 (Nat.le_of_ble_eq_true rfl) dX10_readStatue_134 ?_
      refine x_if_eq (tgt := 158) C dX10_readStatue_137 (by decide) (fun c7 => ?_) (fun c7 => ?_)
      · have hf := pf_t c7 hf
        refine x_iconst (0 : Int32) C dX10_readStatue_158 (by decide) ?_
        obtain ⟨rfl, rfl⟩ := Prod.mk.inj (Option.some.inj hf)
        exact m_zret C hr (Or.inl rfl) hQ dX10_readStatue_159
      · have hf := pf_f c7 hf
        refine x_aload_n C dX10_readStatue_140 0 rfl ?_
        refine x_bipush (46 : Int32) C dX10_readStatue_141 (by decide) ?_
        refine x_iload_n C dX10_readStatue_143 1 rfl ?_
        refine x_iadd C dX10_readStatue_144 ?_
        refine x_aload_n C dX10_readStatue_145 0 rfl ?_
        refine x_iconst (0 : Int32) C dX10_readStatue_146 (by decide) ?_
        refine x_bipush (99 : Int32) C dX10_readStatue_147 (by decide) ?_
        obtain ⟨r8, er8, hf⟩ := pf_b hf
        refine mc_readNumber C B dK (Nat.le_of_ble_eq_true rfl) er8 (Nat.le_of_ble_eq_true rfl) dX10_readStatue_149 ?_
        obtain ⟨r9, er9, hf⟩ := pf_b hf
        refine mc_put C B dK (Nat.le_of_ble_eq_true rfl) (bz_readNumber_E er8) er9 (Nat.le_of_ble_eq_true rfl) dX10_readStatue_152 ?_
        refine x_if_ne (tgt := 160) C dX10_readStatue_155 (by decide) (fun c10 => ?_) (fun c10 => ?_)
        · have hf := pf_f c10 hf
          refine x_aload_n C dX10_readStatue_160 0 rfl ?_
          refine mg_15 C B dX10_readStatue_161 ?_
          refine x_iconst (3 : Int32) C dX10_readStatue_164 (by decide) ?_
          refine x_dup2_11 C dX10_readStatue_165 rfl rfl ?_
          refine mlc_15 3 C B (by decide +kernel) dX10_readStatue_166 ?_
          refine x_iconst (1 : Int32) C dX10_readStatue_167 (by decide) ?_
          refine x_iadd C dX10_readStatue_168 ?_
          refine msc_15 3 C B (by decide +kernel) dX10_readStatue_169 ?_
          obtain ⟨s11, es11, hf⟩ := pf_e hf
          refine m_ren es11 ?_
          refine x_iconst (1 : Int32) C dX10_readStatue_170 (by decide) ?_
          obtain ⟨rfl, rfl⟩ := Prod.mk.inj (Option.some.inj hf)
          exact m_zret C hr (Or.inr rfl) hQ dX10_readStatue_171
        · have hf := pf_t c10 hf
          refine x_iconst (0 : Int32) C dX10_readStatue_158 (by decide) ?_
          obtain ⟨rfl, rfl⟩ := Prod.mk.inj (Option.some.inj hf)
          exact m_zret C hr (Or.inl rfl) hQ dX10_readStatue_159
    · have hf := pf_f c1 hf
      refine x_aload_n C dX10_readStatue_76 0 rfl ?_
      refine mg_15 C B dX10_readStatue_77 ?_
      refine x_bipush (30 : Int32) C dX10_readStatue_80 (by decide) ?_
      refine x_iload_n C dX10_readStatue_82 2 rfl ?_
      refine x_iadd C dX10_readStatue_83 ?_
      obtain ⟨h12, hf⟩ := pf_in hf
      refine ml_15 C B h12 dX10_readStatue_84 ?_
      refine x_aload_n C dX10_readStatue_85 0 rfl ?_
      refine mg_13 C B dX10_readStatue_86 ?_
      refine x_icmp_ne (tgt := 98) C dX10_readStatue_89 (by decide) (fun c13 => ?_) (fun c13 => ?_)
      · have hf := pf_f c13 hf
        refine x_inc (c := (1 : Int32)) (L' := [(0, .ref (mO M)), (1, .int x1), (2, .int (x2 + (1 : Int32)))]) C dX10_readStatue_98 2 rfl (by decide) (Nat.le_of_ble_eq_true rfl) [1, 2, 0] rfl ?_
        refine x_goto (tgt := 71) C dX10_readStatue_101 (by decide) ?_
        exact ih x1 (x2 + (1 : Int32)) _ hf
      · have hf := pf_t c13 hf
        refine x_aload_n C dX10_readStatue_92 0 rfl ?_
        refine x_iconst (3 : Int32) C dX10_readStatue_93 (by decide) ?_
        obtain ⟨r14, er14, hf⟩ := pf_e hf
        refine mc_bad C B dK (Nat.le_of_ble_eq_true rfl) er14.symm (Nat.le_of_ble_eq_true rfl) dX10_readStatue_94 ?_
        obtain ⟨rfl, rfl⟩ := Prod.mk.inj (Option.some.inj hf)
        exact m_zret C hr (bz_bad_E er14.symm) hQ dX10_readStatue_97
theorem bz_readStatue_71 {r : Int32} {τ : MS} {n : Nat} : ∀ (m : Nat) (x1 : Int32) (x2 : Int32) (σ : MS) (hf : f_readStatue_71 n m x1 x2 σ = some (r, τ)), r = 0 ∨ r = 1 := by
  intro m
  induction m with
  | zero => intro x1 x2 σ hf; cases hf
  | succ m ih =>
    intro x1 x2 σ hf
    rw [f_readStatue_71] at hf
    by_cases c1 : x1 ≤ x2
    · have hf := pf_t c1 hf
      obtain ⟨h2, hf⟩ := pf_in hf
      obtain ⟨s3, es3, hf⟩ := pf_e hf
      obtain ⟨r4, er4, hf⟩ := pf_b hf
      obtain ⟨r5, er5, hf⟩ := pf_b hf
      obtain ⟨r6, er6, hf⟩ := pf_b hf
      by_cases c7 : r6.1 = 0
      · have hf := pf_t c7 hf
        obtain ⟨rfl, rfl⟩ := Prod.mk.inj (Option.some.inj hf)
        exact (Or.inl rfl)
      · have hf := pf_f c7 hf
        obtain ⟨r8, er8, hf⟩ := pf_b hf
        obtain ⟨r9, er9, hf⟩ := pf_b hf
        by_cases c10 : r9.1 = 0
        · have hf := pf_t c10 hf
          obtain ⟨rfl, rfl⟩ := Prod.mk.inj (Option.some.inj hf)
          exact (Or.inl rfl)
        · have hf := pf_f c10 hf
          obtain ⟨s11, es11, hf⟩ := pf_e hf
          obtain ⟨rfl, rfl⟩ := Prod.mk.inj (Option.some.inj hf)
          exact (Or.inr rfl)
    · have hf := pf_f c1 hf
      obtain ⟨h12, hf⟩ := pf_in hf
      by_cases c13 : (ga σ 15 (Int32.toNatClampNeg ((30 : Int32) + x2))) = (gi σ 13)
      · have hf := pf_t c13 hf
        obtain ⟨r14, er14, hf⟩ := pf_e hf
        obtain ⟨rfl, rfl⟩ := Prod.mk.inj (Option.some.inj hf)
        exact (bz_bad_E er14.symm)
      · have hf := pf_f c13 hf
        exact ih x1 (x2 + (1 : Int32)) _ hf
def f_readStatue (n : Nat) (σ : MS) : Option (Int32 × MS) := (f_readFirst n (3 : Int32) (8 : Int32) σ).bind fun r1 => if r1.1 = 0 then (some ((0 : Int32), r1.2)) else (ev (ga r1.2 15 3) fun v3 => (f_readNew n ((13 : Int32) + v3) r1.2).bind fun r4 => if r4.1 = 0 then (some ((0 : Int32), r4.2)) else ((f_readOne n (8 : Int32) (ga r4.2 15 2) r4.2).bind fun r6 => (f_put ((22 : Int32) + v3) r6.1 r6.2).bind fun r7 => if r7.1 = 0 then (some ((0 : Int32), r7.2)) else ((f_isOne n (0 : Int32) (ga r7.2 15 0) r7.2).bind fun r9 => if r9.1 = 0 then (some ((0 : Int32), r9.2)) else (f_readStatue_71 n n v3 (0 : Int32) r9.2))))
set_option maxHeartbeats 4000000 in
theorem w_readStatue_E {K : KT} {M : MT} {r : Int32} {τ : MS} (n : Nat) (C : Kok K cX10_readStatue 3 RX10) (B : MB K M) (hr : (kMe K).sig.returnType = some .boolean) (dK : kR K = rmD 6) (hQ : KQm K M (some (.int r)) τ) (σ : MS) (hf : f_readStatue n σ = some (r, τ)) : XJ K 3 (Wm K M σ) 0 [(0, .ref (mO M))] [] := by
  unfold f_readStatue at hf
  refine x_aload_n C dX10_readStatue_0 0 rfl ?_
  refine x_iconst (3 : Int32) C dX10_readStatue_1 (by decide) ?_
  refine x_bipush (8 : Int32) C dX10_readStatue_2 (by decide) ?_
  obtain ⟨r1, er1, hf⟩ := pf_b hf
  refine mc_readFirst C B dK (Nat.le_of_ble_eq_true rfl) er1 (Nat.le_of_ble_eq_true rfl) dX10_readStatue_4 ?_
  refine x_if_ne (tgt := 12) C dX10_readStatue_7 (by decide) (fun c2 => ?_) (fun c2 => ?_)
  · have hf := pf_f c2 hf
    refine x_aload_n C dX10_readStatue_12 0 rfl ?_
    refine mg_15 C B dX10_readStatue_13 ?_
    refine x_iconst (3 : Int32) C dX10_readStatue_16 (by decide) ?_
    refine mlc_15 3 C B (by decide +kernel) dX10_readStatue_17 ?_
    obtain ⟨v3, ev3, hf⟩ := pf_e hf
    refine x_topir ev3 ?_
    refine x_istore_n (L' := [(0, .ref (mO M)), (1, .int v3)]) C dX10_readStatue_18 (Nat.le_of_ble_eq_true rfl) [1, 0] rfl ?_
    refine x_aload_n C dX10_readStatue_19 0 rfl ?_
    refine x_bipush (13 : Int32) C dX10_readStatue_20 (by decide) ?_
    refine x_iload_n C dX10_readStatue_22 1 rfl ?_
    refine x_iadd C dX10_readStatue_23 ?_
    obtain ⟨r4, er4, hf⟩ := pf_b hf
    refine mc_readNew C B dK (Nat.le_of_ble_eq_true rfl) er4 (Nat.le_of_ble_eq_true rfl) dX10_readStatue_24 ?_
    refine x_if_eq (tgt := 67) C dX10_readStatue_27 (by decide) (fun c5 => ?_) (fun c5 => ?_)
    · have hf := pf_t c5 hf
      refine x_iconst (0 : Int32) C dX10_readStatue_67 (by decide) ?_
      obtain ⟨rfl, rfl⟩ := Prod.mk.inj (Option.some.inj hf)
      exact m_zret C hr (Or.inl rfl) hQ dX10_readStatue_68
    · have hf := pf_f c5 hf
      refine x_aload_n C dX10_readStatue_30 0 rfl ?_
      refine x_bipush (22 : Int32) C dX10_readStatue_31 (by decide) ?_
      refine x_iload_n C dX10_readStatue_33 1 rfl ?_
      refine x_iadd C dX10_readStatue_34 ?_
      refine x_aload_n C dX10_readStatue_35 0 rfl ?_
      refine x_bipush (8 : Int32) C dX10_readStatue_36 (by decide) ?_
      refine x_aload_n C dX10_readStatue_38 0 rfl ?_
      refine mg_15 C B dX10_readStatue_39 ?_
      refine x_iconst (2 : Int32) C dX10_readStatue_42 (by decide) ?_
      refine mlc_15 2 C B (by decide +kernel) dX10_readStatue_43 ?_
      obtain ⟨r6, er6, hf⟩ := pf_b hf
      refine mc_readOne C B dK (Nat.le_of_ble_eq_true rfl) er6 (Nat.le_of_ble_eq_true rfl) dX10_readStatue_44 ?_
      obtain ⟨r7, er7, hf⟩ := pf_b hf
      refine mc_put C B dK (Nat.le_of_ble_eq_true rfl) (bz_readOne_E er6) er7 (Nat.le_of_ble_eq_true rfl) dX10_readStatue_47 ?_
      refine x_if_eq (tgt := 67) C dX10_readStatue_50 (by decide) (fun c8 => ?_) (fun c8 => ?_)
      · have hf := pf_t c8 hf
        refine x_iconst (0 : Int32) C dX10_readStatue_67 (by decide) ?_
        obtain ⟨rfl, rfl⟩ := Prod.mk.inj (Option.some.inj hf)
        exact m_zret C hr (Or.inl rfl) hQ dX10_readStatue_68
      · have hf := pf_f c8 hf
        refine x_aload_n C dX10_readStatue_53 0 rfl ?_
        refine x_iconst (0 : Int32) C dX10_readStatue_54 (by decide) ?_
        refine x_aload_n C dX10_readStatue_55 0 rfl ?_
        refine mg_15 C B dX10_readStatue_56 ?_
        refine x_iconst (0 : Int32) C dX10_readStatue_59 (by decide) ?_
        refine mlc_15 0 C B (by decide +kernel) dX10_readStatue_60 ?_
        obtain ⟨r9, er9, hf⟩ := pf_b hf
        refine mc_isOne C B dK (Nat.le_of_ble_eq_true rfl) er9 (Nat.le_of_ble_eq_true rfl) dX10_readStatue_61 ?_
        refine x_if_ne (tgt := 69) C dX10_readStatue_64 (by decide) (fun c10 => ?_) (fun c10 => ?_)
        · have hf := pf_f c10 hf
          refine x_iconst (0 : Int32) C dX10_readStatue_69 (by decide) ?_
          refine x_istore_n (L' := [(0, .ref (mO M)), (1, .int v3), (2, .int (0 : Int32))]) C dX10_readStatue_70 (Nat.le_of_ble_eq_true rfl) [1, 2, 0] rfl ?_
          exact w_readStatue_71 n C B hr dK hQ n v3 (0 : Int32) _ hf
        · have hf := pf_t c10 hf
          refine x_iconst (0 : Int32) C dX10_readStatue_67 (by decide) ?_
          obtain ⟨rfl, rfl⟩ := Prod.mk.inj (Option.some.inj hf)
          exact m_zret C hr (Or.inl rfl) hQ dX10_readStatue_68
  · have hf := pf_t c2 hf
    refine x_iconst (0 : Int32) C dX10_readStatue_10 (by decide) ?_
    obtain ⟨rfl, rfl⟩ := Prod.mk.inj (Option.some.inj hf)
    exact m_zret C hr (Or.inl rfl) hQ dX10_readStatue_11
theorem bz_readStatue_E {r : Int32} {τ : MS} {n : Nat} {σ : MS} (hf : f_readStatue n σ = some (r, τ)) : r = 0 ∨ r = 1 := by
  unfold f_readStatue at hf
  obtain ⟨r1, er1, hf⟩ := pf_b hf
  by_cases c2 : r1.1 = 0
  · have hf := pf_t c2 hf
    obtain ⟨rfl, rfl⟩ := Prod.mk.inj (Option.some.inj hf)
    exact (Or.inl rfl)
  · have hf := pf_f c2 hf
    obtain ⟨v3, ev3, hf⟩ := pf_e hf
    obtain ⟨r4, er4, hf⟩ := pf_b hf
    by_cases c5 : r4.1 = 0
    · have hf := pf_t c5 hf
      obtain ⟨rfl, rfl⟩ := Prod.mk.inj (Option.some.inj hf)
      exact (Or.inl rfl)
    · have hf := pf_f c5 hf
      obtain ⟨r6, er6, hf⟩ := pf_b hf
      obtain ⟨r7, er7, hf⟩ := pf_b hf
      by_cases c8 : r7.1 = 0
      · have hf := pf_t c8 hf
        obtain ⟨rfl, rfl⟩ := Prod.mk.inj (Option.some.inj hf)
        exact (Or.inl rfl)
      · have hf := pf_f c8 hf
        obtain ⟨r9, er9, hf⟩ := pf_b hf
        by_cases c10 : r9.1 = 0
        · have hf := pf_t c10 hf
          obtain ⟨rfl, rfl⟩ := Prod.mk.inj (Option.some.inj hf)
          exact (Or.inl rfl)
        · have hf := pf_f c10 hf
          exact bz_readStatue_71 n v3 (0 : Int32) _ hf
theorem met_readStatue {M : MT} {v : (Int32 × MS)} {n : Nat} {σ : MS} {l : Launch} (hc : (mCl M)[mCi M]? = some (RX10, TX10, 61)) (hf : f_readStatue n σ = some v) : Met l yX10_readStatue (ws_ yX10_readStatue cX10_readStatue 3 (some .boolean)) (rmD 6) (va_Pc [.ref (mO M)] (MU M σ)) (Qm M (some (.int v.1)) v.2) 0 0 (mAd M) :=
  m_met [.ref (mO M)] (by decide) rfl (Nat.le_of_ble_eq_true rfl) hc (fun K hl hR hr C B hQ => w_readStatue_E _ C B hr hR hQ _ hf)
theorem mc_readStatue {K : KT} {M : MT} {cc : ByteArray} {nL pc dk : Nat} {L : List (Nat × Value)} {rest : List Value} {σ : MS} {v : (Int32 × MS)} {n : Nat} (C : Kok K cc nL RX10) (B : MB K M) (dK : kR K = rmD dk) (hd : 6 + 1 ≤ dk) (hf : f_readStatue n σ = some v) (hW : (rest.map fun v => v.category).sum ≤ 8) (dd : decode cc pc = .ok (.invokevirtual 236, 3)) (kk2 : XJ K nL (Wm K M v.2) (pc + 3) L ((.int v.1) :: rest)) : XJ K nL (Wm K M σ) pc L (.ref (mO M) :: rest) :=
  m_callV (rest := rest) (v := (some (.int v.1))) [] 0 rfl C B dK hd (Nat.le_of_ble_eq_true rfl) (lw_V q2076 q2078 qs58 q133 q2079) (by decide +kernel) (met_readStatue B.2 hf) rfl hW dd kk2
def f_readWalker_116 (n : Nat) : Nat → Int32 → Int32 → MS → Option (Int32 × MS)
  | 0, _, _, _ => none
  | m + 1, x1, x2, σ => if (5 : Int32) ≤ x2 then (ev (sa σ 15 4 ((ga σ 15 4) + (1 : Int32))) fun s2 => some ((1 : Int32), s2)) else (if inb (((86 : Int32) + ((5 : Int32) * x1)) + x2) 198 = true then ev (sa σ 15 (Int32.toNatClampNeg (((86 : Int32) + ((5 : Int32) * x1)) + x2)) (6 : Int32)) fun s4 => f_readWalker_116 n m x1 (x2 + (1 : Int32)) s4 else none)
set_option maxHeartbeats 4000000 in
theorem w_readWalker_116 {K : KT} {M : MT} {r : Int32} {τ : MS} (n : Nat) (C : Kok K cX10_readWalker 3 RX10) (B : MB K M) (hr : (kMe K).sig.returnType = some .boolean) (dK : kR K = rmD 6) (hQ : KQm K M (some (.int r)) τ) : ∀ (m : Nat) (x1 : Int32) (x2 : Int32) (σ : MS) (hf : f_readWalker_116 n m x1 x2 σ = some (r, τ)), XJ K 3 (Wm K M σ) 116 [(0, .ref (mO M)), (1, .int x1), (2, .int x2)] [] := by
  intro m
  induction m with
  | zero => intro x1 x2 σ hf; cases hf
  | succ m ih =>
    intro x1 x2 σ hf
    rw [f_readWalker_116] at hf
    refine x_iload_n C dX10_readWalker_116 2 rfl ?_
    refine x_iconst (5 : Int32) C dX10_readWalker_117 (by decide) ?_
    refine x_icmp_ge (tgt := 142) C dX10_readWalker_118 (by decide) (fun c1 => ?_) (fun c1 => ?_)
    · have hf := pf_t c1 hf
      refine x_aload_n C dX10_readWalker_142 0 rfl ?_
      refine mg_15 C B dX10_readWalker_143 ?_
      refine x_iconst (4 : Int32) C dX10_readWalker_146 (by decide) ?_
      refine x_dup2_11 C dX10_readWalker_147 rfl rfl ?_
      refine mlc_15 4 C B (by decide +kernel) dX10_readWalker_148 ?_
      refine x_iconst (1 : Int32) C dX10_readWalker_149 (by decide) ?_
      refine x_iadd C dX10_readWalker_150 ?_
      refine msc_15 4 C B (by decide +kernel) dX10_readWalker_151 ?_
      obtain ⟨s2, es2, hf⟩ := pf_e hf
      refine m_ren es2 ?_
      refine x_iconst (1 : Int32) C dX10_readWalker_152 (by decide) ?_
      obtain ⟨rfl, rfl⟩ := Prod.mk.inj (Option.some.inj hf)
      exact m_zret C hr (Or.inr rfl) hQ dX10_readWalker_153
    · have hf := pf_f c1 hf
      refine x_aload_n C dX10_readWalker_121 0 rfl ?_
      refine mg_15 C B dX10_readWalker_122 ?_
      refine x_bipush (86 : Int32) C dX10_readWalker_125 (by decide) ?_
      refine x_iconst (5 : Int32) C dX10_readWalker_127 (by decide) ?_
      refine x_iload_n C dX10_readWalker_128 1 rfl ?_
      refine x_imul C dX10_readWalker_129 ?_
      refine x_iadd C dX10_readWalker_130 ?_
      refine x_iload_n C dX10_readWalker_131 2 rfl ?_
      refine x_iadd C dX10_readWalker_132 ?_
      refine x_bipush (6 : Int32) C dX10_readWalker_133 (by decide) ?_
      obtain ⟨h3, hf⟩ := pf_in hf
      refine ms_15 C B h3 dX10_readWalker_135 ?_
      obtain ⟨s4, es4, hf⟩ := pf_e hf
      refine m_ren es4 ?_
      refine x_inc (c := (1 : Int32)) (L' := [(0, .ref (mO M)), (1, .int x1), (2, .int (x2 + (1 : Int32)))]) C dX10_readWalker_136 2 rfl (by decide) (Nat.le_of_ble_eq_true rfl) [1, 2, 0] rfl ?_
      refine x_goto (tgt := 116) C dX10_readWalker_139 (by decide) ?_
      exact ih x1 (x2 + (1 : Int32)) _ hf
theorem bz_readWalker_116 {r : Int32} {τ : MS} {n : Nat} : ∀ (m : Nat) (x1 : Int32) (x2 : Int32) (σ : MS) (hf : f_readWalker_116 n m x1 x2 σ = some (r, τ)), r = 0 ∨ r = 1 := by
  intro m
  induction m with
  | zero => intro x1 x2 σ hf; cases hf
  | succ m ih =>
    intro x1 x2 σ hf
    rw [f_readWalker_116] at hf
    by_cases c1 : (5 : Int32) ≤ x2
    · have hf := pf_t c1 hf
      obtain ⟨s2, es2, hf⟩ := pf_e hf
      obtain ⟨rfl, rfl⟩ := Prod.mk.inj (Option.some.inj hf)
      exact (Or.inr rfl)
    · have hf := pf_f c1 hf
      obtain ⟨h3, hf⟩ := pf_in hf
      obtain ⟨s4, es4, hf⟩ := pf_e hf
      exact ih x1 (x2 + (1 : Int32)) _ hf
def f_readWalker (n : Nat) (σ : MS) : Option (Int32 × MS) := (f_readFirst n (4 : Int32) (8 : Int32) σ).bind fun r1 => if r1.1 = 0 then (some ((0 : Int32), r1.2)) else (ev (ga r1.2 15 4) fun v3 => (f_readNew n ((21 : Int32) + v3) r1.2).bind fun r4 => if r4.1 = 0 then (some ((0 : Int32), r4.2)) else ((f_readOne n (0 : Int32) (ga r4.2 15 0) r4.2).bind fun r6 => (f_put ((54 : Int32) + v3) r6.1 r6.2).bind fun r7 => if r7.1 = 0 then (some ((0 : Int32), r7.2)) else ((f_readOne n (0 : Int32) (ga r7.2 15 0) r7.2).bind fun r9 => (f_put ((62 : Int32) + v3) r9.1 r9.2).bind fun r10 => if r10.1 = 0 then (some ((0 : Int32), r10.2)) else ((f_readNumber n (1 : Int32) (7 : Int32) r10.2).bind fun r12 => (f_put ((70 : Int32) + v3) r12.1 r12.2).bind fun r13 => if r13.1 = 0 then (some ((0 : Int32), r13.2)) else ((f_readNumber n (0 : Int32) (9 : Int32) r13.2).bind fun r15 => (f_put ((78 : Int32) + v3) r15.1 r15.2).bind fun r16 => if r16.1 = 0 then (some ((0 : Int32), r16.2)) else (f_readWalker_116 n n v3 (0 : Int32) r16.2))))))
set_option maxHeartbeats 4000000 in
theorem w_readWalker_E {K : KT} {M : MT} {r : Int32} {τ : MS} (n : Nat) (C : Kok K cX10_readWalker 3 RX10) (B : MB K M) (hr : (kMe K).sig.returnType = some .boolean) (dK : kR K = rmD 6) (hQ : KQm K M (some (.int r)) τ) (σ : MS) (hf : f_readWalker n σ = some (r, τ)) : XJ K 3 (Wm K M σ) 0 [(0, .ref (mO M))] [] := by
  unfold f_readWalker at hf
  refine x_aload_n C dX10_readWalker_0 0 rfl ?_
  refine x_iconst (4 : Int32) C dX10_readWalker_1 (by decide) ?_
  refine x_bipush (8 : Int32) C dX10_readWalker_2 (by decide) ?_
  obtain ⟨r1, er1, hf⟩ := pf_b hf
  refine mc_readFirst C B dK (Nat.le_of_ble_eq_true rfl) er1 (Nat.le_of_ble_eq_true rfl) dX10_readWalker_4 ?_
  refine x_if_ne (tgt := 12) C dX10_readWalker_7 (by decide) (fun c2 => ?_) (fun c2 => ?_)
  · have hf := pf_f c2 hf
    refine x_aload_n C dX10_readWalker_12 0 rfl ?_
    refine mg_15 C B dX10_readWalker_13 ?_
    refine x_iconst (4 : Int32) C dX10_readWalker_16 (by decide) ?_
    refine mlc_15 4 C B (by decide +kernel) dX10_readWalker_17 ?_
    obtain ⟨v3, ev3, hf⟩ := pf_e hf
    refine x_topir ev3 ?_
    refine x_istore_n (L' := [(0, .ref (mO M)), (1, .int v3)]) C dX10_readWalker_18 (Nat.le_of_ble_eq_true rfl) [1, 0] rfl ?_
    refine x_aload_n C dX10_readWalker_19 0 rfl ?_
    refine x_bipush (21 : Int32) C dX10_readWalker_20 (by decide) ?_
    refine x_iload_n C dX10_readWalker_22 1 rfl ?_
    refine x_iadd C dX10_readWalker_23 ?_
    obtain ⟨r4, er4, hf⟩ := pf_b hf
    refine mc_readNew C B dK (Nat.le_of_ble_eq_true rfl) er4 (Nat.le_of_ble_eq_true rfl) dX10_readWalker_24 ?_
    refine x_if_eq (tgt := 74) C dX10_readWalker_27 (by decide) (fun c5 => ?_) (fun c5 => ?_)
    · have hf := pf_t c5 hf
      refine x_iconst (0 : Int32) C dX10_readWalker_74 (by decide) ?_
      obtain ⟨rfl, rfl⟩ := Prod.mk.inj (Option.some.inj hf)
      exact m_zret C hr (Or.inl rfl) hQ dX10_readWalker_75
    · have hf := pf_f c5 hf
      refine x_aload_n C dX10_readWalker_30 0 rfl ?_
      refine x_bipush (54 : Int32) C dX10_readWalker_31 (by decide) ?_
      refine x_iload_n C dX10_readWalker_33 1 rfl ?_
      refine x_iadd C dX10_readWalker_34 ?_
      refine x_aload_n C dX10_readWalker_35 0 rfl ?_
      refine x_iconst (0 : Int32) C dX10_readWalker_36 (by decide) ?_
      refine x_aload_n C dX10_readWalker_37 0 rfl ?_
      refine mg_15 C B dX10_readWalker_38 ?_
      refine x_iconst (0 : Int32) C dX10_readWalker_41 (by decide) ?_
      refine mlc_15 0 C B (by decide +kernel) dX10_readWalker_42 ?_
      obtain ⟨r6, er6, hf⟩ := pf_b hf
      refine mc_readOne C B dK (Nat.le_of_ble_eq_true rfl) er6 (Nat.le_of_ble_eq_true rfl) dX10_readWalker_43 ?_
      obtain ⟨r7, er7, hf⟩ := pf_b hf
      refine mc_put C B dK (Nat.le_of_ble_eq_true rfl) (bz_readOne_E er6) er7 (Nat.le_of_ble_eq_true rfl) dX10_readWalker_46 ?_
      refine x_if_eq (tgt := 74) C dX10_readWalker_49 (by decide) (fun c8 => ?_) (fun c8 => ?_)
      · have hf := pf_t c8 hf
        refine x_iconst (0 : Int32) C dX10_readWalker_74 (by decide) ?_
        obtain ⟨rfl, rfl⟩ := Prod.mk.inj (Option.some.inj hf)
        exact m_zret C hr (Or.inl rfl) hQ dX10_readWalker_75
      · have hf := pf_f c8 hf
        refine x_aload_n C dX10_readWalker_52 0 rfl ?_
        refine x_bipush (62 : Int32) C dX10_readWalker_53 (by decide) ?_
        refine x_iload_n C dX10_readWalker_55 1 rfl ?_
        refine x_iadd C dX10_readWalker_56 ?_
        refine x_aload_n C dX10_readWalker_57 0 rfl ?_
        refine x_iconst (0 : Int32) C dX10_readWalker_58 (by decide) ?_
        refine x_aload_n C dX10_readWalker_59 0 rfl ?_
        refine mg_15 C B dX10_readWalker_60 ?_
        refine x_iconst (0 : Int32) C dX10_readWalker_63 (by decide) ?_
        refine mlc_15 0 C B (by decide +kernel) dX10_readWalker_64 ?_
        obtain ⟨r9, er9, hf⟩ := pf_b hf
        refine mc_readOne C B dK (Nat.le_of_ble_eq_true rfl) er9 (Nat.le_of_ble_eq_true rfl) dX10_readWalker_65 ?_
        obtain ⟨r10, er10, hf⟩ := pf_b hf
        refine mc_put C B dK (Nat.le_of_ble_eq_true rfl) (bz_readOne_E er9) er10 (Nat.le_of_ble_eq_true rfl) dX10_readWalker_68 ?_
        refine x_if_ne (tgt := 76) C dX10_readWalker_71 (by decide) (fun c11 => ?_) (fun c11 => ?_)
        · have hf := pf_f c11 hf
          refine x_aload_n C dX10_readWalker_76 0 rfl ?_
          refine x_bipush (70 : Int32) C dX10_readWalker_77 (by decide) ?_
          refine x_iload_n C dX10_readWalker_79 1 rfl ?_
          refine x_iadd C dX10_readWalker_80 ?_
          refine x_aload_n C dX10_readWalker_81 0 rfl ?_
          refine x_iconst (1 : Int32) C dX10_readWalker_82 (by decide) ?_
          refine x_bipush (7 : Int32) C dX10_readWalker_83 (by decide) ?_
          obtain ⟨r12, er12, hf⟩ := pf_b hf
          refine mc_readNumber C B dK (Nat.le_of_ble_eq_true rfl) er12 (Nat.le_of_ble_eq_true rfl) dX10_readWalker_85 ?_
          obtain ⟨r13, er13, hf⟩ := pf_b hf
          refine mc_put C B dK (Nat.le_of_ble_eq_true rfl) (bz_readNumber_E er12) er13 (Nat.le_of_ble_eq_true rfl) dX10_readWalker_88 ?_
          refine x_if_eq (tgt := 112) C dX10_readWalker_91 (by decide) (fun c14 => ?_) (fun c14 => ?_)
          · have hf := pf_t c14 hf
            refine x_iconst (0 : Int32) C dX10_readWalker_112 (by decide) ?_
            obtain ⟨rfl, rfl⟩ := Prod.mk.inj (Option.some.inj hf)
            exact m_zret C hr (Or.inl rfl) hQ dX10_readWalker_113
          · have hf := pf_f c14 hf
            refine x_aload_n C dX10_readWalker_94 0 rfl ?_
            refine x_bipush (78 : Int32) C dX10_readWalker_95 (by decide) ?_
            refine x_iload_n C dX10_readWalker_97 1 rfl ?_
            refine x_iadd C dX10_readWalker_98 ?_
            refine x_aload_n C dX10_readWalker_99 0 rfl ?_
            refine x_iconst (0 : Int32) C dX10_readWalker_100 (by decide) ?_
            refine x_bipush (9 : Int32) C dX10_readWalker_101 (by decide) ?_
            obtain ⟨r15, er15, hf⟩ := pf_b hf
            refine mc_readNumber C B dK (Nat.le_of_ble_eq_true rfl) er15 (Nat.le_of_ble_eq_true rfl) dX10_readWalker_103 ?_
            obtain ⟨r16, er16, hf⟩ := pf_b hf
            refine mc_put C B dK (Nat.le_of_ble_eq_true rfl) (bz_readNumber_E er15) er16 (Nat.le_of_ble_eq_true rfl) dX10_readWalker_106 ?_
            refine x_if_ne (tgt := 114) C dX10_readWalker_109 (by decide) (fun c17 => ?_) (fun c17 => ?_)
            · have hf := pf_f c17 hf
              refine x_iconst (0 : Int32) C dX10_readWalker_114 (by decide) ?_
              refine x_istore_n (L' := [(0, .ref (mO M)), (1, .int v3), (2, .int (0 : Int32))]) C dX10_readWalker_115 (Nat.le_of_ble_eq_true rfl) [1, 2, 0] rfl ?_
              exact w_readWalker_116 n C B hr dK hQ n v3 (0 : Int32) _ hf
            · have hf := pf_t c17 hf
              refine x_iconst (0 : Int32) C dX10_readWalker_112 (by decide) ?_
              obtain ⟨rfl, rfl⟩ := Prod.mk.inj (Option.some.inj hf)
              exact m_zret C hr (Or.inl rfl) hQ dX10_readWalker_113
        · have hf := pf_t c11 hf
          refine x_iconst (0 : Int32) C dX10_readWalker_74 (by decide) ?_
          obtain ⟨rfl, rfl⟩ := Prod.mk.inj (Option.some.inj hf)
          exact m_zret C hr (Or.inl rfl) hQ dX10_readWalker_75
  · have hf := pf_t c2 hf
    refine x_iconst (0 : Int32) C dX10_readWalker_10 (by decide) ?_
    obtain ⟨rfl, rfl⟩ := Prod.mk.inj (Option.some.inj hf)
    exact m_zret C hr (Or.inl rfl) hQ dX10_readWalker_11
theorem bz_readWalker_E {r : Int32} {τ : MS} {n : Nat} {σ : MS} (hf : f_readWalker n σ = some (r, τ)) : r = 0 ∨ r = 1 := by
  unfold f_readWalker at hf
  obtain ⟨r1, er1, hf⟩ := pf_b hf
  by_cases c2 : r1.1 = 0
  · have hf := pf_t c2 hf
    obtain ⟨rfl, rfl⟩ := Prod.mk.inj (Option.some.inj hf)
    exact (Or.inl rfl)
  · have hf := pf_f c2 hf
    obtain ⟨v3, ev3, hf⟩ := pf_e hf
    obtain ⟨r4, er4, hf⟩ := pf_b hf
    by_cases c5 : r4.1 = 0
    · have hf := pf_t c5 hf
      obtain ⟨rfl, rfl⟩ := Prod.mk.inj (Option.some.inj hf)
      exact (Or.inl rfl)
    · have hf := pf_f c5 hf
      obtain ⟨r6, er6, hf⟩ := pf_b hf
      obtain ⟨r7, er7, hf⟩ := pf_b hf
      by_cases c8 : r7.1 = 0
      · have hf := pf_t c8 hf
        obtain ⟨rfl, rfl⟩ := Prod.mk.inj (Option.some.inj hf)
        exact (Or.inl rfl)
      · have hf := pf_f c8 hf
        obtain ⟨r9, er9, hf⟩ := pf_b hf
        obtain ⟨r10, er10, hf⟩ := pf_b hf
        by_cases c11 : r10.1 = 0
        · have hf := pf_t c11 hf
          obtain ⟨rfl, rfl⟩ := Prod.mk.inj (Option.some.inj hf)
          exact (Or.inl rfl)
        · have hf := pf_f c11 hf
          obtain ⟨r12, er12, hf⟩ := pf_b hf
          obtain ⟨r13, er13, hf⟩ := pf_b hf
          by_cases c14 : r13.1 = 0
          · have hf := pf_t c14 hf
            obtain ⟨rfl, rfl⟩ := Prod.mk.inj (Option.some.inj hf)
            exact (Or.inl rfl)
          · have hf := pf_f c14 hf
            obtain ⟨r15, er15, hf⟩ := pf_b hf
            obtain ⟨r16, er16, hf⟩ := pf_b hf
            by_cases c17 : r16.1 = 0
            · have hf := pf_t c17 hf
              obtain ⟨rfl, rfl⟩ := Prod.mk.inj (Option.some.inj hf)
              exact (Or.inl rfl)
            · have hf := pf_f c17 hf
              exact bz_readWalker_116 n v3 (0 : Int32) _ hf
theorem met_readWalker {M : MT} {v : (Int32 × MS)} {n : Nat} {σ : MS} {l : Launch} (hc : (mCl M)[mCi M]? = some (RX10, TX10, 61)) (hf : f_readWalker n σ = some v) : Met l yX10_readWalker (ws_ yX10_readWalker cX10_readWalker 3 (some .boolean)) (rmD 6) (va_Pc [.ref (mO M)] (MU M σ)) (Qm M (some (.int v.1)) v.2) 0 0 (mAd M) :=
  m_met [.ref (mO M)] (by decide) rfl (Nat.le_of_ble_eq_true rfl) hc (fun K hl hR hr C B hQ => w_readWalker_E _ C B hr hR hQ _ hf)
theorem mc_readWalker {K : KT} {M : MT} {cc : ByteArray} {nL pc dk : Nat} {L : List (Nat × Value)} {rest : List Value} {σ : MS} {v : (Int32 × MS)} {n : Nat} (C : Kok K cc nL RX10) (B : MB K M) (dK : kR K = rmD dk) (hd : 6 + 1 ≤ dk) (hf : f_readWalker n σ = some v) (hW : (rest.map fun v => v.category).sum ≤ 8) (dd : decode cc pc = .ok (.invokevirtual 239, 3)) (kk2 : XJ K nL (Wm K M v.2) (pc + 3) L ((.int v.1) :: rest)) : XJ K nL (Wm K M σ) pc L (.ref (mO M) :: rest) :=
  m_callV (rest := rest) (v := (some (.int v.1))) [] 0 rfl C B dK hd (Nat.le_of_ble_eq_true rfl) (lw_V q2080 q2082 qs59 q133 q2083) (by decide +kernel) (met_readWalker B.2 hf) rfl hW dd kk2
