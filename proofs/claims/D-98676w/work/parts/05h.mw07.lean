set_option maxRecDepth 100000
theorem mcr_holds {K : KT} {M : MT} {cc : ByteArray} {nL pc dk : Nat} {L : List (Nat × Value)} {rest : List Value} {σ : MS} {v : Int32} {rs : Int32 → Int32 → Option Int32} {rf : Nat} {x1 : Int32} {x2 : Int32} (C : Kok K cc nL RX10) (B : MB K M) (hrs : ∀ (a0 : Int32) (a1 : Int32) (v : Int32), rs a0 a1 = some v → Met (kL K) yX10_holds (ws_ yX10_holds cX10_holds 8 (some .boolean)) (rmD (4 + 1 * rf)) (va_Pc [.ref (mO M), .int a0, .int a1] (MU M σ)) (Qm M (some (.int v)) σ) 0 0 (mAd M)) (dK : kR K = rmD dk) (hd : (4 + 1 * rf) + 1 ≤ dk) (hf : rs x1 x2 = some v) (hW : (rest.map fun v => v.category).sum ≤ 8) (dd : decode cc pc = .ok (.invokevirtual 500, 3)) (kk2 : XJ K nL (Wm K M σ) (pc + 3) L ((.int v) :: rest)) : XJ K nL (Wm K M σ) pc L (.int x2 :: .int x1 :: .ref (mO M) :: rest) :=
  m_callV (rest := rest) (v := (some (.int v))) [.int x1, .int x2] 2 rfl C B dK hd (Nat.le_of_ble_eq_true rfl) (lw_V q2497 q2499 qs119 q133 q2500) (by decide +kernel) (hrs _ _ _ hf) rfl hW dd kk2
def f_holds_316 (rs : Int32 → Int32 → Option Int32) (n : Nat) (σ : MS) (x3 : Int32) (x5 : Int32) (y0 : Int32) : Option Int32 := if inb (x3 + (3 : Int32)) 532 = true then if (ga σ 14 (Int32.toNatClampNeg (x3 + (3 : Int32)))) = (60 : Int32) then (if x5 ≤ y0 then (some (0 : Int32)) else (some (1 : Int32))) else (if inb (x3 + (3 : Int32)) 532 = true then if (ga σ 14 (Int32.toNatClampNeg (x3 + (3 : Int32)))) = (61 : Int32) then (if y0 = x5 then (some (1 : Int32)) else (some (0 : Int32))) else (if y0 ≤ x5 then (some (0 : Int32)) else (some (1 : Int32))) else none) else none
set_option maxHeartbeats 4000000 in
theorem w_holds_316 {K : KT} {M : MT} {r : Int32} (rs : Int32 → Int32 → Option Int32) (n : Nat) (σ : MS) {rf : Nat} (hrs : ∀ (a0 : Int32) (a1 : Int32) (v : Int32), rs a0 a1 = some v → Met (kL K) yX10_holds (ws_ yX10_holds cX10_holds 8 (some .boolean)) (rmD (4 + 1 * rf)) (va_Pc [.ref (mO M), .int a0, .int a1] (MU M σ)) (Qm M (some (.int v)) σ) 0 0 (mAd M)) (hbz : ∀ {a0 : Int32} {a1 : Int32} {v : Int32}, rs a0 a1 = some v → v = 0 ∨ v = 1) (C : Kok K cX10_holds 8 RX10) (B : MB K M) (hr : (kMe K).sig.returnType = some .boolean) (dK : kR K = rmD (4 + 1 * (rf + 1))) (hQ : KQm K M (some (.int r)) σ) (x3 : Int32) (x5 : Int32) (y0 : Int32) (hf : f_holds_316 rs n σ x3 x5 y0 = some r) : XJ K 8 (Wm K M σ) 316 [(0, .ref (mO M)), (3, .int x3), (5, .int x5)] [.int y0] := by
  unfold f_holds_316 at hf
  refine x_istore (L' := [(0, .ref (mO M)), (3, .int x3), (5, .int x5), (7, .int y0)]) C dX10_holds_316 (Nat.le_of_ble_eq_true rfl) [1, 2, 3, 0] rfl ?_
  refine x_aload_n C dX10_holds_318 0 rfl ?_
  refine mg_14 C B dX10_holds_319 ?_
  refine x_iload_n C dX10_holds_322 1 rfl ?_
  refine x_iconst (3 : Int32) C dX10_holds_323 (by decide) ?_
  refine x_iadd C dX10_holds_324 ?_
  obtain ⟨h1, hf⟩ := pf_in hf
  refine ml_14 C B h1 dX10_holds_325 ?_
  refine x_bipush (60 : Int32) C dX10_holds_326 (by decide) ?_
  refine x_icmp_ne (tgt := 346) C dX10_holds_328 (by decide) (fun c2 => ?_) (fun c2 => ?_)
  · have hf := pf_f c2 hf
    refine x_aload_n C dX10_holds_346 0 rfl ?_
    refine mg_14 C B dX10_holds_347 ?_
    refine x_iload_n C dX10_holds_350 1 rfl ?_
    refine x_iconst (3 : Int32) C dX10_holds_351 (by decide) ?_
    refine x_iadd C dX10_holds_352 ?_
    obtain ⟨h3, hf⟩ := pf_in hf
    refine ml_14 C B h3 dX10_holds_353 ?_
    refine x_bipush (61 : Int32) C dX10_holds_354 (by decide) ?_
    refine x_icmp_ne (tgt := 374) C dX10_holds_356 (by decide) (fun c4 => ?_) (fun c4 => ?_)
    · have hf := pf_f c4 hf
      refine x_iload C dX10_holds_374 3 rfl ?_
      refine x_iload C dX10_holds_376 2 rfl ?_
      refine x_icmp_le (tgt := 385) C dX10_holds_378 (by decide) (fun c5 => ?_) (fun c5 => ?_)
      · have hf := pf_t c5 hf
        refine x_iconst (0 : Int32) C dX10_holds_385 (by decide) ?_
        obtain rfl := Option.some.inj hf
        exact m_zret C hr (Or.inl rfl) hQ dX10_holds_386
      · have hf := pf_f c5 hf
        refine x_iconst (1 : Int32) C dX10_holds_381 (by decide) ?_
        refine x_goto (tgt := 386) C dX10_holds_382 (by decide) ?_
        obtain rfl := Option.some.inj hf
        exact m_zret C hr (Or.inr rfl) hQ dX10_holds_386
    · have hf := pf_t c4 hf
      refine x_iload C dX10_holds_359 3 rfl ?_
      refine x_iload C dX10_holds_361 2 rfl ?_
      refine x_icmp_ne (tgt := 370) C dX10_holds_363 (by decide) (fun c6 => ?_) (fun c6 => ?_)
      · have hf := pf_f c6 hf
        refine x_iconst (0 : Int32) C dX10_holds_370 (by decide) ?_
        refine x_goto (tgt := 386) C dX10_holds_371 (by decide) ?_
        obtain rfl := Option.some.inj hf
        exact m_zret C hr (Or.inl rfl) hQ dX10_holds_386
      · have hf := pf_t c6 hf
        refine x_iconst (1 : Int32) C dX10_holds_366 (by decide) ?_
        refine x_goto (tgt := 386) C dX10_holds_367 (by decide) ?_
        obtain rfl := Option.some.inj hf
        exact m_zret C hr (Or.inr rfl) hQ dX10_holds_386
  · have hf := pf_t c2 hf
    refine x_iload C dX10_holds_331 3 rfl ?_
    refine x_iload C dX10_holds_333 2 rfl ?_
    refine x_icmp_ge (tgt := 342) C dX10_holds_335 (by decide) (fun c7 => ?_) (fun c7 => ?_)
    · have hf := pf_t c7 hf
      refine x_iconst (0 : Int32) C dX10_holds_342 (by decide) ?_
      refine x_goto (tgt := 386) C dX10_holds_343 (by decide) ?_
      obtain rfl := Option.some.inj hf
      exact m_zret C hr (Or.inl rfl) hQ dX10_holds_386
    · have hf := pf_f c7 hf
      refine x_iconst (1 : Int32) C dX10_holds_338 (by decide) ?_
      refine x_goto (tgt := 386) C dX10_holds_339 (by decide) ?_
      obtain rfl := Option.some.inj hf
      exact m_zret C hr (Or.inr rfl) hQ dX10_holds_386
theorem bz_holds_316 {r : Int32} {rs : Int32 → Int32 → Option Int32} {n : Nat} {σ : MS} (hbz : ∀ {a0 : Int32} {a1 : Int32} {v : Int32}, rs a0 a1 = some v → v = 0 ∨ v = 1) {x3 : Int32} {x5 : Int32} {y0 : Int32} (hf : f_holds_316 rs n σ x3 x5 y0 = some r) : r = 0 ∨ r = 1 := by
  unfold f_holds_316 at hf
  obtain ⟨h1, hf⟩ := pf_in hf
  by_cases c2 : (ga σ 14 (Int32.toNatClampNeg (x3 + (3 : Int32)))) = (60 : Int32)
  · have hf := pf_t c2 hf
    by_cases c7 : x5 ≤ y0
    · have hf := pf_t c7 hf
      obtain rfl := Option.some.inj hf
      exact (Or.inl rfl)
    · have hf := pf_f c7 hf
      obtain rfl := Option.some.inj hf
      exact (Or.inr rfl)
  · have hf := pf_f c2 hf
    obtain ⟨h3, hf⟩ := pf_in hf
    by_cases c4 : (ga σ 14 (Int32.toNatClampNeg (x3 + (3 : Int32)))) = (61 : Int32)
    · have hf := pf_t c4 hf
      by_cases c6 : y0 = x5
      · have hf := pf_t c6 hf
        obtain rfl := Option.some.inj hf
        exact (Or.inr rfl)
      · have hf := pf_f c6 hf
        obtain rfl := Option.some.inj hf
        exact (Or.inl rfl)
    · have hf := pf_f c4 hf
      by_cases c5 : y0 ≤ x5
      · have hf := pf_t c5 hf
        obtain rfl := Option.some.inj hf
        exact (Or.inl rfl)
      · have hf := pf_f c5 hf
        obtain rfl := Option.some.inj hf
        exact (Or.inr rfl)
def g_holds (rs : Int32 → Int32 → Option Int32) (n : Nat) (σ : MS) (x1 : Int32) (x2 : Int32) : Option Int32 := ev ((292 : Int32) + ((4 : Int32) * x1)) fun v1 => if inb (v1 + (1 : Int32)) 532 = true then ev (ga σ 14 (Int32.toNatClampNeg (v1 + (1 : Int32)))) fun v3 => if inb (v1 + (2 : Int32)) 532 = true then ev (ga σ 14 (Int32.toNatClampNeg (v1 + (2 : Int32)))) fun v5 => if inb v1 532 = true then if (ga σ 14 (Int32.toNatClampNeg v1)) = (1 : Int32) then ((rs v3 x2).bind fun r15 => if r15 = 0 then (some (1 : Int32)) else (some (0 : Int32))) else (if (ga σ 14 (Int32.toNatClampNeg v1)) = (2 : Int32) then ((rs v3 x2).bind fun r17 => if r17 = 0 then (some (0 : Int32)) else ((rs v5 x2).bind fun r19 => if r19 = 0 then (some (0 : Int32)) else (some (1 : Int32)))) else (if (ga σ 14 (Int32.toNatClampNeg v1)) = (3 : Int32) then ((rs v3 x2).bind fun r21 => if r21 = 0 then ((rs v5 x2).bind fun r23 => if r23 = 0 then (some (0 : Int32)) else (some (1 : Int32))) else (some (1 : Int32))) else (if (ga σ 14 (Int32.toNatClampNeg v1)) = (65 : Int32) then (some (f_isEvicted σ x2)) else (if (ga σ 14 (Int32.toNatClampNeg v1)) = (66 : Int32) then (some (f_has (ga σ 14 200) x2)) else (if (ga σ 14 (Int32.toNatClampNeg v1)) = (67 : Int32) then ((f_isSolvent n σ x2 (0 : Int32)).bind fun r25 => some r25) else (if (ga σ 14 (Int32.toNatClampNeg v1)) = (68 : Int32) then (if inb ((202 : Int32) + x2) 532 = true then if (ga σ 14 (Int32.toNatClampNeg ((202 : Int32) + x2))) = v3 then (some (1 : Int32)) else (some (0 : Int32)) else none) else (if (ga σ 14 (Int32.toNatClampNeg v1)) = (69 : Int32) then (if inb ((210 : Int32) + x2) 532 = true then if (ga σ 14 (Int32.toNatClampNeg ((210 : Int32) + x2))) = v3 then (some (1 : Int32)) else (some (0 : Int32)) else none) else (if inb v1 532 = true then ev ((ga σ 14 (Int32.toNatClampNeg v1)) - (50 : Int32)) fun v31 => if v31 = (20 : Int32) then (if inb ((218 : Int32) + x2) 532 = true then f_holds_316 rs n σ v1 v5 (ga σ 14 (Int32.toNatClampNeg ((218 : Int32) + x2))) else none) else (if v31 = (21 : Int32) then (if inb ((226 : Int32) + x2) 532 = true then f_holds_316 rs n σ v1 v5 (ga σ 14 (Int32.toNatClampNeg ((226 : Int32) + x2))) else none) else (if v31 = (22 : Int32) then (if inb ((234 : Int32) + x2) 532 = true then f_holds_316 rs n σ v1 v5 (ga σ 14 (Int32.toNatClampNeg ((234 : Int32) + x2))) else none) else (f_holds_316 rs n σ v1 v5 x2))) else none)))))))) else none else none else none
set_option maxHeartbeats 4000000 in
theorem w_holds_E {K : KT} {M : MT} {r : Int32} (rs : Int32 → Int32 → Option Int32) (n : Nat) (σ : MS) {rf : Nat} (hrs : ∀ (a0 : Int32) (a1 : Int32) (v : Int32), rs a0 a1 = some v → Met (kL K) yX10_holds (ws_ yX10_holds cX10_holds 8 (some .boolean)) (rmD (4 + 1 * rf)) (va_Pc [.ref (mO M), .int a0, .int a1] (MU M σ)) (Qm M (some (.int v)) σ) 0 0 (mAd M)) (hbz : ∀ {a0 : Int32} {a1 : Int32} {v : Int32}, rs a0 a1 = some v → v = 0 ∨ v = 1) (C : Kok K cX10_holds 8 RX10) (B : MB K M) (hr : (kMe K).sig.returnType = some .boolean) (dK : kR K = rmD (4 + 1 * (rf + 1))) (hQ : KQm K M (some (.int r)) σ) (x1 : Int32) (x2 : Int32) (hf : g_holds rs n σ x1 x2 = some r) : XJ K 8 (Wm K M σ) 0 [(0, .ref (mO M)), (1, .int x1), (2, .int x2)] [] := by
  unfold g_holds at hf
  refine x_sipush (292 : Int32) C dX10_holds_0 (by decide) ?_
  refine x_iconst (4 : Int32) C dX10_holds_3 (by decide) ?_
  refine x_iload_n C dX10_holds_4 1 rfl ?_
  refine x_imul C dX10_holds_5 ?_
  refine x_iadd C dX10_holds_6 ?_
  obtain ⟨v1, ev1, hf⟩ := pf_e hf
  refine x_topir ev1 ?_
  refine x_istore_n (L' := [(0, .ref (mO M)), (2, .int x2), (3, .int v1)]) C dX10_holds_7 (Nat.le_of_ble_eq_true rfl) [1, 3, 0] rfl ?_
  refine x_aload_n C dX10_holds_8 0 rfl ?_
  refine mg_14 C B dX10_holds_9 ?_
  refine x_iload_n C dX10_holds_12 2 rfl ?_
  refine x_iconst (1 : Int32) C dX10_holds_13 (by decide) ?_
  refine x_iadd C dX10_holds_14 ?_
  obtain ⟨h2, hf⟩ := pf_in hf
  refine ml_14 C B h2 dX10_holds_15 ?_
  obtain ⟨v3, ev3, hf⟩ := pf_e hf
  refine x_topir ev3 ?_
  refine x_istore (L' := [(0, .ref (mO M)), (2, .int x2), (3, .int v1), (4, .int v3)]) C dX10_holds_16 (Nat.le_of_ble_eq_true rfl) [1, 2, 3, 0] rfl ?_
  refine x_aload_n C dX10_holds_18 0 rfl ?_
  refine mg_14 C B dX10_holds_19 ?_
  refine x_iload_n C dX10_holds_22 2 rfl ?_
  refine x_iconst (2 : Int32) C dX10_holds_23 (by decide) ?_
  refine x_iadd C dX10_holds_24 ?_
  obtain ⟨h4, hf⟩ := pf_in hf
  refine ml_14 C B h4 dX10_holds_25 ?_
  obtain ⟨v5, ev5, hf⟩ := pf_e hf
  refine x_topir ev5 ?_
  refine x_istore (L' := [(0, .ref (mO M)), (2, .int x2), (3, .int v1), (4, .int v3), (5, .int v5)]) C dX10_holds_26 (Nat.le_of_ble_eq_true rfl) [1, 2, 3, 4, 0] rfl ?_
  refine x_aload_n C dX10_holds_28 0 rfl ?_
  refine mg_14 C B dX10_holds_29 ?_
  refine x_iload_n C dX10_holds_32 2 rfl ?_
  obtain ⟨h6, hf⟩ := pf_in hf
  refine ml_14 C B h6 dX10_holds_33 ?_
  by_cases c7 : (ga σ 14 (Int32.toNatClampNeg v1)) = (1 : Int32)
  · have hf := pf_t c7 hf
    refine x_lookup (off := 74) (tgt := 108) C dX10_holds_34 (by decide) (by rw [c7]; decide) (by decide) ?_
    refine x_aload_n C dX10_holds_108 0 rfl ?_
    refine x_iload C dX10_holds_109 3 rfl ?_
    refine x_iload_n C dX10_holds_111 1 rfl ?_
    obtain ⟨r15, er15, hf⟩ := pf_b hf
    refine mcr_holds C B hrs dK (by omega) er15 (Nat.le_of_ble_eq_true rfl) dX10_holds_112 ?_
    refine x_if_ne (tgt := 122) C dX10_holds_115 (by decide) (fun c16 => ?_) (fun c16 => ?_)
    · have hf := pf_f c16 hf
      refine x_iconst (0 : Int32) C dX10_holds_122 (by decide) ?_
      obtain rfl := Option.some.inj hf
      exact m_zret C hr (Or.inl rfl) hQ dX10_holds_123
    · have hf := pf_t c16 hf
      refine x_iconst (1 : Int32) C dX10_holds_118 (by decide) ?_
      refine x_goto (tgt := 123) C dX10_holds_119 (by decide) ?_
      obtain rfl := Option.some.inj hf
      exact m_zret C hr (Or.inr rfl) hQ dX10_holds_123
  · have hf := pf_f c7 hf
    by_cases c8 : (ga σ 14 (Int32.toNatClampNeg v1)) = (2 : Int32)
    · have hf := pf_t c8 hf
      refine x_lookup (off := 90) (tgt := 124) C dX10_holds_34 (by decide) (by rw [c8]; decide) (by decide) ?_
      refine x_aload_n C dX10_holds_124 0 rfl ?_
      refine x_iload C dX10_holds_125 3 rfl ?_
      refine x_iload_n C dX10_holds_127 1 rfl ?_
      obtain ⟨r17, er17, hf⟩ := pf_b hf
      refine mcr_holds C B hrs dK (by omega) er17 (Nat.le_of_ble_eq_true rfl) dX10_holds_128 ?_
      refine x_if_eq (tgt := 148) C dX10_holds_131 (by decide) (fun c18 => ?_) (fun c18 => ?_)
      · have hf := pf_t c18 hf
        refine x_iconst (0 : Int32) C dX10_holds_148 (by decide) ?_
        obtain rfl := Option.some.inj hf
        exact m_zret C hr (Or.inl rfl) hQ dX10_holds_149
      · have hf := pf_f c18 hf
        refine x_aload_n C dX10_holds_134 0 rfl ?_
        refine x_iload C dX10_holds_135 4 rfl ?_
        refine x_iload_n C dX10_holds_137 1 rfl ?_
        obtain ⟨r19, er19, hf⟩ := pf_b hf
        refine mcr_holds C B hrs dK (by omega) er19 (Nat.le_of_ble_eq_true rfl) dX10_holds_138 ?_
        refine x_if_eq (tgt := 148) C dX10_holds_141 (by decide) (fun c20 => ?_) (fun c20 => ?_)
        · have hf := pf_t c20 hf
          refine x_iconst (0 : Int32) C dX10_holds_148 (by decide) ?_
          obtain rfl := Option.some.inj hf
          exact m_zret C hr (Or.inl rfl) hQ dX10_holds_149
        · have hf := pf_f c20 hf
          refine x_iconst (1 : Int32) C dX10_holds_144 (by decide) ?_
          refine x_goto (tgt := 149) C dX10_holds_145 (by decide) ?_
          obtain rfl := Option.some.inj hf
          exact m_zret C hr (Or.inr rfl) hQ dX10_holds_149
    · have hf := pf_f c8 hf
      by_cases c9 : (ga σ 14 (Int32.toNatClampNeg v1)) = (3 : Int32)
      · have hf := pf_t c9 hf
        refine x_lookup (off := 116) (tgt := 150) C dX10_holds_34 (by decide) (by rw [c9]; decide) (by decide) ?_
        refine x_aload_n C dX10_holds_150 0 rfl ?_
        refine x_iload C dX10_holds_151 3 rfl ?_
        refine x_iload_n C dX10_holds_153 1 rfl ?_
        obtain ⟨r21, er21, hf⟩ := pf_b hf
        refine mcr_holds C B hrs dK (by omega) er21 (Nat.le_of_ble_eq_true rfl) dX10_holds_154 ?_
        refine x_if_ne (tgt := 170) C dX10_holds_157 (by decide) (fun c22 => ?_) (fun c22 => ?_)
        · have hf := pf_f c22 hf
          refine x_iconst (1 : Int32) C dX10_holds_170 (by decide) ?_
          refine x_goto (tgt := 175) C dX10_holds_171 (by decide) ?_
          obtain rfl := Option.some.inj hf
          exact m_zret C hr (Or.inr rfl) hQ dX10_holds_175
        · have hf := pf_t c22 hf
          refine x_aload_n C dX10_holds_160 0 rfl ?_
          refine x_iload C dX10_holds_161 4 rfl ?_
          refine x_iload_n C dX10_holds_163 1 rfl ?_
          obtain ⟨r23, er23, hf⟩ := pf_b hf
          refine mcr_holds C B hrs dK (by omega) er23 (Nat.le_of_ble_eq_true rfl) dX10_holds_164 ?_
          refine x_if_eq (tgt := 174) C dX10_holds_167 (by decide) (fun c24 => ?_) (fun c24 => ?_)
          · have hf := pf_t c24 hf
            refine x_iconst (0 : Int32) C dX10_holds_174 (by decide) ?_
            obtain rfl := Option.some.inj hf
            exact m_zret C hr (Or.inl rfl) hQ dX10_holds_175
          · have hf := pf_f c24 hf
            refine x_iconst (1 : Int32) C dX10_holds_170 (by decide) ?_
            refine x_goto (tgt := 175) C dX10_holds_171 (by decide) ?_
            obtain rfl := Option.some.inj hf
            exact m_zret C hr (Or.inr rfl) hQ dX10_holds_175
      · have hf := pf_f c9 hf
        by_cases c10 : (ga σ 14 (Int32.toNatClampNeg v1)) = (65 : Int32)
        · have hf := pf_t c10 hf
          refine x_lookup (off := 142) (tgt := 176) C dX10_holds_34 (by decide) (by rw [c10]; decide) (by decide) ?_
          refine x_aload_n C dX10_holds_176 0 rfl ?_
          refine x_iload_n C dX10_holds_177 1 rfl ?_
          refine mc_isEvicted C B dK (by omega) rfl (Nat.le_of_ble_eq_true rfl) dX10_holds_178 ?_
          obtain rfl := Option.some.inj hf
          exact m_zret C hr (bz_isEvicted_E rfl) hQ dX10_holds_181
        · have hf := pf_f c10 hf
          by_cases c11 : (ga σ 14 (Int32.toNatClampNeg v1)) = (66 : Int32)
          · have hf := pf_t c11 hf
            refine x_lookup (off := 148) (tgt := 182) C dX10_holds_34 (by decide) (by rw [c11]; decide) (by decide) ?_
            refine x_aload_n C dX10_holds_182 0 rfl ?_
            refine mg_14 C B dX10_holds_183 ?_
            refine x_sipush (200 : Int32) C dX10_holds_186 (by decide) ?_
            refine mlc_14 200 C B (by decide +kernel) dX10_holds_189 ?_
            refine x_iload_n C dX10_holds_190 1 rfl ?_
            refine mc_has C B dK (by omega) rfl (Nat.le_of_ble_eq_true rfl) dX10_holds_191 ?_
            obtain rfl := Option.some.inj hf
            exact m_zret C hr (bz_has_E rfl) hQ dX10_holds_194
          · have hf := pf_f c11 hf
            by_cases c12 : (ga σ 14 (Int32.toNatClampNeg v1)) = (67 : Int32)
            · have hf := pf_t c12 hf
              refine x_lookup (off := 161) (tgt := 195) C dX10_holds_34 (by decide) (by rw [c12]; decide) (by decide) ?_
              refine x_aload_n C dX10_holds_195 0 rfl ?_
              refine x_iload_n C dX10_holds_196 1 rfl ?_
              refine x_iconst (0 : Int32) C dX10_holds_197 (by decide) ?_
              obtain ⟨r25, er25, hf⟩ := pf_b hf
              refine mc_isSolvent C B dK (by omega) er25 (Nat.le_of_ble_eq_true rfl) dX10_holds_198 ?_
              obtain rfl := Option.some.inj hf
              exact m_zret C hr (bz_isSolvent_E er25) hQ dX10_holds_201
            · have hf := pf_f c12 hf
              by_cases c13 : (ga σ 14 (Int32.toNatClampNeg v1)) = (68 : Int32)
              · have hf := pf_t c13 hf
                refine x_lookup (off := 168) (tgt := 202) C dX10_holds_34 (by decide) (by rw [c13]; decide) (by decide) ?_
                refine x_aload_n C dX10_holds_202 0 rfl ?_
                refine mg_14 C B dX10_holds_203 ?_
                refine x_sipush (202 : Int32) C dX10_holds_206 (by decide) ?_
                refine x_iload_n C dX10_holds_209 1 rfl ?_
                refine x_iadd C dX10_holds_210 ?_
                obtain ⟨h26, hf⟩ := pf_in hf
                refine ml_14 C B h26 dX10_holds_211 ?_
                refine x_iload C dX10_holds_212 3 rfl ?_
                refine x_icmp_ne (tgt := 221) C dX10_holds_214 (by decide) (fun c27 => ?_) (fun c27 => ?_)
                · have hf := pf_f c27 hf
                  refine x_iconst (0 : Int32) C dX10_holds_221 (by decide) ?_
                  obtain rfl := Option.some.inj hf
                  exact m_zret C hr (Or.inl rfl) hQ dX10_holds_222
                · have hf := pf_t c27 hf
                  refine x_iconst (1 : Int32) C dX10_holds_217 (by decide) ?_
                  refine x_goto (tgt := 222) C dX10_holds_218 (by decide) ?_
                  obtain rfl := Option.some.inj hf
                  exact m_zret C hr (Or.inr rfl) hQ dX10_holds_222
              · have hf := pf_f c13 hf
                by_cases c14 : (ga σ 14 (Int32.toNatClampNeg v1)) = (69 : Int32)
                · have hf := pf_t c14 hf
                  refine x_lookup (off := 189) (tgt := 223) C dX10_holds_34 (by decide) (by rw [c14]; decide) (by decide) ?_
                  refine x_aload_n C dX10_holds_223 0 rfl ?_
                  refine mg_14 C B dX10_holds_224 ?_
                  refine x_sipush (210 : Int32) C dX10_holds_227 (by decide) ?_
                  refine x_iload_n C dX10_holds_230 1 rfl ?_
                  refine x_iadd C dX10_holds_231 ?_
                  obtain ⟨h28, hf⟩ := pf_in hf
                  refine ml_14 C B h28 dX10_holds_232 ?_
                  refine x_iload C dX10_holds_233 3 rfl ?_
                  refine x_icmp_ne (tgt := 242) C dX10_holds_235 (by decide) (fun c29 => ?_) (fun c29 => ?_)
                  · have hf := pf_f c29 hf
                    refine x_iconst (0 : Int32) C dX10_holds_242 (by decide) ?_
                    obtain rfl := Option.some.inj hf
                    exact m_zret C hr (Or.inl rfl) hQ dX10_holds_243
                  · have hf := pf_t c29 hf
                    refine x_iconst (1 : Int32) C dX10_holds_238 (by decide) ?_
                    refine x_goto (tgt := 243) C dX10_holds_239 (by decide) ?_
                    obtain rfl := Option.some.inj hf
                    exact m_zret C hr (Or.inr rfl) hQ dX10_holds_243
                · have hf := pf_f c14 hf
                  refine x_lookup (off := 210) (tgt := 244) C dX10_holds_34 (by decide) (by show Op.lookupswitch.offset [(1, 74), (2, 90), (3, 116), (65, 142), (66, 148), (67, 161), (68, 168), (69, 189)] _ _ = _; rw [lv_osw c7 (show (1 : Int32).toInt = (1 : Int) by decide), lv_osw c8 (show (2 : Int32).toInt = (2 : Int) by decide), lv_osw c9 (show (3 : Int32).toInt = (3 : Int) by decide), lv_osw c10 (show (65 : Int32).toInt = (65 : Int) by decide), lv_osw c11 (show (66 : Int32).toInt = (66 : Int) by decide), lv_osw c12 (show (67 : Int32).toInt = (67 : Int) by decide), lv_osw c13 (show (68 : Int32).toInt = (68 : Int) by decide), lv_osw c14 (show (69 : Int32).toInt = (69 : Int) by decide)]; rfl) (by decide) ?_
                  refine x_aload_n C dX10_holds_244 0 rfl ?_
                  refine mg_14 C B dX10_holds_245 ?_
                  refine x_iload_n C dX10_holds_248 2 rfl ?_
                  obtain ⟨h30, hf⟩ := pf_in hf
                  refine ml_14 C B h30 dX10_holds_249 ?_
                  refine x_bipush (50 : Int32) C dX10_holds_250 (by decide) ?_
                  refine x_isub C dX10_holds_252 ?_
                  obtain ⟨v31, ev31, hf⟩ := pf_e hf
                  refine x_topir ev31 ?_
                  refine x_istore (L' := [(0, .ref (mO M)), (2, .int x2), (3, .int v1), (5, .int v5), (6, .int v31)]) C dX10_holds_253 (Nat.le_of_ble_eq_true rfl) [1, 2, 3, 5, 0] rfl ?_
                  refine x_iload C dX10_holds_255 4 rfl ?_
                  refine x_bipush (20 : Int32) C dX10_holds_257 (by decide) ?_
                  refine x_icmp_ne (tgt := 275) C dX10_holds_259 (by decide) (fun c32 => ?_) (fun c32 => ?_)
                  · have hf := pf_f c32 hf
                    refine x_iload C dX10_holds_275 4 rfl ?_
                    refine x_bipush (21 : Int32) C dX10_holds_277 (by decide) ?_
                    refine x_icmp_ne (tgt := 295) C dX10_holds_279 (by decide) (fun c33 => ?_) (fun c33 => ?_)
                    · have hf := pf_f c33 hf
                      refine x_iload C dX10_holds_295 4 rfl ?_
                      refine x_bipush (22 : Int32) C dX10_holds_297 (by decide) ?_
                      refine x_icmp_ne (tgt := 315) C dX10_holds_299 (by decide) (fun c34 => ?_) (fun c34 => ?_)
                      · have hf := pf_f c34 hf
                        refine x_iload_n C dX10_holds_315 1 rfl ?_
                        refine x_sub [0, 2, 3] (L' := [(0, .ref (mO M)), (3, .int v1), (5, .int v5)]) rfl ?_
                        exact w_holds_316 rs n σ hrs hbz C B hr dK hQ v1 v5 x2 hf
                      · have hf := pf_t c34 hf
                        refine x_aload_n C dX10_holds_302 0 rfl ?_
                        refine mg_14 C B dX10_holds_303 ?_
                        refine x_sipush (234 : Int32) C dX10_holds_306 (by decide) ?_
                        refine x_iload_n C dX10_holds_309 1 rfl ?_
                        refine x_iadd C dX10_holds_310 ?_
                        obtain ⟨h35, hf⟩ := pf_in hf
                        refine ml_14 C B h35 dX10_holds_311 ?_
                        refine x_goto (tgt := 316) C dX10_holds_312 (by decide) ?_
                        refine x_sub [0, 2, 3] (L' := [(0, .ref (mO M)), (3, .int v1), (5, .int v5)]) rfl ?_
                        exact w_holds_316 rs n σ hrs hbz C B hr dK hQ v1 v5 (ga σ 14 (Int32.toNatClampNeg ((234 : Int32) + x2))) hf
                    · have hf := pf_t c33 hf
                      refine x_aload_n C dX10_holds_282 0 rfl ?_
                      refine mg_14 C B dX10_holds_283 ?_
                      refine x_sipush (226 : Int32) C dX10_holds_286 (by decide) ?_
                      refine x_iload_n C dX10_holds_289 1 rfl ?_
                      refine x_iadd C dX10_holds_290 ?_
                      obtain ⟨h36, hf⟩ := pf_in hf
                      refine ml_14 C B h36 dX10_holds_291 ?_
                      refine x_goto (tgt := 316) C dX10_holds_292 (by decide) ?_
                      refine x_sub [0, 2, 3] (L' := [(0, .ref (mO M)), (3, .int v1), (5, .int v5)]) rfl ?_
                      exact w_holds_316 rs n σ hrs hbz C B hr dK hQ v1 v5 (ga σ 14 (Int32.toNatClampNeg ((226 : Int32) + x2))) hf
                  · have hf := pf_t c32 hf
                    refine x_aload_n C dX10_holds_262 0 rfl ?_
                    refine mg_14 C B dX10_holds_263 ?_
                    refine x_sipush (218 : Int32) C dX10_holds_266 (by decide) ?_
                    refine x_iload_n C dX10_holds_269 1 rfl ?_
                    refine x_iadd C dX10_holds_270 ?_
                    obtain ⟨h37, hf⟩ := pf_in hf
                    refine ml_14 C B h37 dX10_holds_271 ?_
                    refine x_goto (tgt := 316) C dX10_holds_272 (by decide) ?_
                    refine x_sub [0, 2, 3] (L' := [(0, .ref (mO M)), (3, .int v1), (5, .int v5)]) rfl ?_
                    exact w_holds_316 rs n σ hrs hbz C B hr dK hQ v1 v5 (ga σ 14 (Int32.toNatClampNeg ((218 : Int32) + x2))) hf
theorem bz_holds_E {r : Int32} {rs : Int32 → Int32 → Option Int32} {n : Nat} {σ : MS} (hbz : ∀ {a0 : Int32} {a1 : Int32} {v : Int32}, rs a0 a1 = some v → v = 0 ∨ v = 1) {x1 : Int32} {x2 : Int32} (hf : g_holds rs n σ x1 x2 = some r) : r = 0 ∨ r = 1 := by
  unfold g_holds at hf
  obtain ⟨v1, ev1, hf⟩ := pf_e hf
  obtain ⟨h2, hf⟩ := pf_in hf
  obtain ⟨v3, ev3, hf⟩ := pf_e hf
  obtain ⟨h4, hf⟩ := pf_in hf
  obtain ⟨v5, ev5, hf⟩ := pf_e hf
  obtain ⟨h6, hf⟩ := pf_in hf
  by_cases c7 : (ga σ 14 (Int32.toNatClampNeg v1)) = (1 : Int32)
  · have hf := pf_t c7 hf
    obtain ⟨r15, er15, hf⟩ := pf_b hf
    by_cases c16 : r15 = 0
    · have hf := pf_t c16 hf
      obtain rfl := Option.some.inj hf
      exact (Or.inr rfl)
    · have hf := pf_f c16 hf
      obtain rfl := Option.some.inj hf
      exact (Or.inl rfl)
  · have hf := pf_f c7 hf
    by_cases c8 : (ga σ 14 (Int32.toNatClampNeg v1)) = (2 : Int32)
    · have hf := pf_t c8 hf
      obtain ⟨r17, er17, hf⟩ := pf_b hf
      by_cases c18 : r17 = 0
      · have hf := pf_t c18 hf
        obtain rfl := Option.some.inj hf
        exact (Or.inl rfl)
      · have hf := pf_f c18 hf
        obtain ⟨r19, er19, hf⟩ := pf_b hf
        by_cases c20 : r19 = 0
        · have hf := pf_t c20 hf
          obtain rfl := Option.some.inj hf
          exact (Or.inl rfl)
        · have hf := pf_f c20 hf
          obtain rfl := Option.some.inj hf
          exact (Or.inr rfl)
    · have hf := pf_f c8 hf
      by_cases c9 : (ga σ 14 (Int32.toNatClampNeg v1)) = (3 : Int32)
      · have hf := pf_t c9 hf
        obtain ⟨r21, er21, hf⟩ := pf_b hf
        by_cases c22 : r21 = 0
        · have hf := pf_t c22 hf
          obtain ⟨r23, er23, hf⟩ := pf_b hf
          by_cases c24 : r23 = 0
          · have hf := pf_t c24 hf
            obtain rfl := Option.some.inj hf
            exact (Or.inl rfl)
          · have hf := pf_f c24 hf
            obtain rfl := Option.some.inj hf
            exact (Or.inr rfl)
        · have hf := pf_f c22 hf
          obtain rfl := Option.some.inj hf
          exact (Or.inr rfl)
      · have hf := pf_f c9 hf
        by_cases c10 : (ga σ 14 (Int32.toNatClampNeg v1)) = (65 : Int32)
        · have hf := pf_t c10 hf
          obtain rfl := Option.some.inj hf
          exact (bz_isEvicted_E rfl)
        · have hf := pf_f c10 hf
          by_cases c11 : (ga σ 14 (Int32.toNatClampNeg v1)) = (66 : Int32)
          · have hf := pf_t c11 hf
            obtain rfl := Option.some.inj hf
            exact (bz_has_E rfl)
          · have hf := pf_f c11 hf
            by_cases c12 : (ga σ 14 (Int32.toNatClampNeg v1)) = (67 : Int32)
            · have hf := pf_t c12 hf
              obtain ⟨r25, er25, hf⟩ := pf_b hf
              obtain rfl := Option.some.inj hf
              exact (bz_isSolvent_E er25)
            · have hf := pf_f c12 hf
              by_cases c13 : (ga σ 14 (Int32.toNatClampNeg v1)) = (68 : Int32)
              · have hf := pf_t c13 hf
                obtain ⟨h26, hf⟩ := pf_in hf
                by_cases c27 : (ga σ 14 (Int32.toNatClampNeg ((202 : Int32) + x2))) = v3
                · have hf := pf_t c27 hf
                  obtain rfl := Option.some.inj hf
                  exact (Or.inr rfl)
                · have hf := pf_f c27 hf
                  obtain rfl := Option.some.inj hf
                  exact (Or.inl rfl)
              · have hf := pf_f c13 hf
                by_cases c14 : (ga σ 14 (Int32.toNatClampNeg v1)) = (69 : Int32)
                · have hf := pf_t c14 hf
                  obtain ⟨h28, hf⟩ := pf_in hf
                  by_cases c29 : (ga σ 14 (Int32.toNatClampNeg ((210 : Int32) + x2))) = v3
                  · have hf := pf_t c29 hf
                    obtain rfl := Option.some.inj hf
                    exact (Or.inr rfl)
                  · have hf := pf_f c29 hf
                    obtain rfl := Option.some.inj hf
                    exact (Or.inl rfl)
                · have hf := pf_f c14 hf
                  obtain ⟨h30, hf⟩ := pf_in hf
                  obtain ⟨v31, ev31, hf⟩ := pf_e hf
                  by_cases c32 : v31 = (20 : Int32)
                  · have hf := pf_t c32 hf
                    obtain ⟨h37, hf⟩ := pf_in hf
                    exact bz_holds_316 hbz hf
                  · have hf := pf_f c32 hf
                    by_cases c33 : v31 = (21 : Int32)
                    · have hf := pf_t c33 hf
                      obtain ⟨h36, hf⟩ := pf_in hf
                      exact bz_holds_316 hbz hf
                    · have hf := pf_f c33 hf
                      by_cases c34 : v31 = (22 : Int32)
                      · have hf := pf_t c34 hf
                        obtain ⟨h35, hf⟩ := pf_in hf
                        exact bz_holds_316 hbz hf
                      · have hf := pf_f c34 hf
                        exact bz_holds_316 hbz hf
theorem metg_holds {M : MT} {v : Int32} {rs : Int32 → Int32 → Option Int32} {n : Nat} {σ : MS} {x1 : Int32} {x2 : Int32} {rf : Nat} {l : Launch} (hrs : ∀ (a0 : Int32) (a1 : Int32) (v : Int32), rs a0 a1 = some v → Met l yX10_holds (ws_ yX10_holds cX10_holds 8 (some .boolean)) (rmD (4 + 1 * rf)) (va_Pc [.ref (mO M), .int a0, .int a1] (MU M σ)) (Qm M (some (.int v)) σ) 0 0 (mAd M)) (hbz : ∀ {a0 : Int32} {a1 : Int32} {v : Int32}, rs a0 a1 = some v → v = 0 ∨ v = 1) (hc : (mCl M)[mCi M]? = some (RX10, TX10, 61)) (hf : g_holds rs n σ x1 x2 = some v) : Met l yX10_holds (ws_ yX10_holds cX10_holds 8 (some .boolean)) (rmD (4 + 1 * (rf + 1))) (va_Pc [.ref (mO M), .int x1, .int x2] (MU M σ)) (Qm M (some (.int v)) σ) 0 0 (mAd M) :=
  m_met [.ref (mO M), .int x1, .int x2] (by decide) rfl (Nat.le_of_ble_eq_true rfl) hc (fun K hl hR hr C B hQ => w_holds_E _ _ _ (hl ▸ hrs) hbz C B hr hR hQ _ _ hf)
def f_holds (n : Nat) (σ : MS) : Nat → Int32 → Int32 → Option Int32
  | 0 => fun _ _ => none
  | rf + 1 => fun x1 x2 => g_holds (f_holds n σ rf) n σ x1 x2
theorem bzf_holds {n : Nat} {σ : MS} : ∀ {rf : Nat} {x1 : Int32} {x2 : Int32} {v : Int32}, f_holds n σ rf x1 x2 = some v → v = 0 ∨ v = 1 := by
  intro rf
  induction rf with
  | zero => intro x1 x2 v hf; cases hf
  | succ rf ih =>
    intro x1 x2 v hf
    exact bz_holds_E ih hf
theorem met_holds {M : MT} {l : Launch} {n : Nat} (hc : (mCl M)[mCi M]? = some (RX10, TX10, 61)) : ∀ (rf : Nat) (x1 : Int32) (x2 : Int32) (σ : MS) (v : Int32), f_holds n σ rf x1 x2 = some v → Met l yX10_holds (ws_ yX10_holds cX10_holds 8 (some .boolean)) (rmD (4 + 1 * rf)) (va_Pc [.ref (mO M), .int x1, .int x2] (MU M σ)) (Qm M (some (.int v)) σ) 0 0 (mAd M) := by
  intro rf
  induction rf with
  | zero => intro x1 x2 σ v hf; cases hf
  | succ rf ih =>
    intro x1 x2 σ v hf
    exact metg_holds (rf := rf) (fun a0 a1 v h => ih a0 a1 σ v h) bzf_holds hc hf
theorem mco_holds {K : KT} {M : MT} {cc : ByteArray} {nL pc dk : Nat} {L : List (Nat × Value)} {rest : List Value} {σ : MS} {v : Int32} {n : Nat} {x1 : Int32} {x2 : Int32} (C : Kok K cc nL RX10) (B : MB K M) (dK : kR K = rmD dk) (hd : 68 + 1 ≤ dk) (hf : f_holds n σ 64 x1 x2 = some v) (hW : (rest.map fun v => v.category).sum ≤ 8) (dd : decode cc pc = .ok (.invokevirtual 500, 3)) (kk2 : XJ K nL (Wm K M σ) (pc + 3) L ((.int v) :: rest)) : XJ K nL (Wm K M σ) pc L (.int x2 :: .int x1 :: .ref (mO M) :: rest) :=
  m_callV (rest := rest) (v := (some (.int v))) [.int x1, .int x2] 2 rfl C B dK hd (Nat.le_of_ble_eq_true rfl) (lw_V q2497 q2499 qs119 q133 q2500) (by decide +kernel) (met_holds B.2 64 _ _ _ _ hf) rfl hW dd kk2
def f_said_22 (n : Nat) : Nat → Int32 → Int32 → Int32 → MS → Option (Int32 × MS)
  | 0, _, _, _, _ => none
  | m + 1, x1, x2, x3, σ => if (ga σ 14 3) ≤ x3 then (if x1 = (-1 : Int32) then (some (x2, σ)) else (some ((-1 : Int32), σ))) else ((f_holds n σ 64 (ga σ 14 291) x3).bind fun r3 => if r3 = 0 then (f_said_22 n m x1 x2 (x3 + (1 : Int32)) σ) else (if x2 = x1 then (some (x3, σ)) else (f_said_22 n m x1 (x2 + (1 : Int32)) (x3 + (1 : Int32)) σ)))
set_option maxHeartbeats 4000000 in
theorem w_said_22 {K : KT} {M : MT} {r : Int32} {τ : MS} (n : Nat) (C : Kok K cX10_said 4 RX10) (B : MB K M) (hr : (kMe K).sig.returnType = some .int) (dK : kR K = rmD 69) (hQ : KQm K M (some (.int r)) τ) : ∀ (m : Nat) (x1 : Int32) (x2 : Int32) (x3 : Int32) (σ : MS) (hf : f_said_22 n m x1 x2 x3 σ = some (r, τ)), XJ K 4 (Wm K M σ) 22 [(0, .ref (mO M)), (1, .int x1), (2, .int x2), (3, .int x3)] [] := by
  intro m
  induction m with
  | zero => intro x1 x2 x3 σ hf; cases hf
  | succ m ih =>
    intro x1 x2 x3 σ hf
    rw [f_said_22] at hf
    refine x_iload_n C dX10_said_22 3 rfl ?_
    refine x_aload_n C dX10_said_23 0 rfl ?_
    refine mg_14 C B dX10_said_24 ?_
    refine x_iconst (3 : Int32) C dX10_said_27 (by decide) ?_
    refine mlc_14 3 C B (by decide +kernel) dX10_said_28 ?_
    refine x_icmp_ge (tgt := 67) C dX10_said_29 (by decide) (fun c1 => ?_) (fun c1 => ?_)
    · have hf := pf_t c1 hf
      refine x_iload_n C dX10_said_67 1 rfl ?_
      refine x_iconst (-1 : Int32) C dX10_said_68 (by decide) ?_
      refine x_icmp_ne (tgt := 76) C dX10_said_69 (by decide) (fun c2 => ?_) (fun c2 => ?_)
      · have hf := pf_f c2 hf
        refine x_iconst (-1 : Int32) C dX10_said_76 (by decide) ?_
        obtain ⟨rfl, rfl⟩ := Prod.mk.inj (Option.some.inj hf)
        exact m_iret C hr hQ dX10_said_77
      · have hf := pf_t c2 hf
        refine x_iload_n C dX10_said_72 2 rfl ?_
        refine x_goto (tgt := 77) C dX10_said_73 (by decide) ?_
        obtain ⟨rfl, rfl⟩ := Prod.mk.inj (Option.some.inj hf)
        exact m_iret C hr hQ dX10_said_77
    · have hf := pf_f c1 hf
      refine x_aload_n C dX10_said_32 0 rfl ?_
      refine x_aload_n C dX10_said_33 0 rfl ?_
      refine mg_14 C B dX10_said_34 ?_
      refine x_sipush (291 : Int32) C dX10_said_37 (by decide) ?_
      refine mlc_14 291 C B (by decide +kernel) dX10_said_40 ?_
      refine x_iload_n C dX10_said_41 3 rfl ?_
      obtain ⟨r3, er3, hf⟩ := pf_b hf
      refine mco_holds C B dK (Nat.le_of_ble_eq_true rfl) er3 (Nat.le_of_ble_eq_true rfl) dX10_said_42 ?_
      refine x_if_ne (tgt := 51) C dX10_said_45 (by decide) (fun c4 => ?_) (fun c4 => ?_)
      · have hf := pf_f c4 hf
        refine x_iload_n C dX10_said_51 2 rfl ?_
        refine x_iload_n C dX10_said_52 1 rfl ?_
        refine x_icmp_ne (tgt := 58) C dX10_said_53 (by decide) (fun c5 => ?_) (fun c5 => ?_)
        · have hf := pf_f c5 hf
          refine x_inc (c := (1 : Int32)) (L' := [(0, .ref (mO M)), (1, .int x1), (2, .int (x2 + (1 : Int32))), (3, .int x3)]) C dX10_said_58 2 rfl (by decide) (Nat.le_of_ble_eq_true rfl) [1, 2, 0, 3] rfl ?_
          refine x_inc (c := (1 : Int32)) (L' := [(0, .ref (mO M)), (1, .int x1), (2, .int (x2 + (1 : Int32))), (3, .int (x3 + (1 : Int32)))]) C dX10_said_61 3 rfl (by decide) (Nat.le_of_ble_eq_true rfl) [1, 2, 3, 0] rfl ?_
          refine x_goto (tgt := 22) C dX10_said_64 (by decide) ?_
          exact ih x1 (x2 + (1 : Int32)) (x3 + (1 : Int32)) _ hf
        · have hf := pf_t c5 hf
          refine x_iload_n C dX10_said_56 3 rfl ?_
          obtain ⟨rfl, rfl⟩ := Prod.mk.inj (Option.some.inj hf)
          exact m_iret C hr hQ dX10_said_57
      · have hf := pf_t c4 hf
        refine x_goto (tgt := 61) C dX10_said_48 (by decide) ?_
        refine x_inc (c := (1 : Int32)) (L' := [(0, .ref (mO M)), (1, .int x1), (2, .int x2), (3, .int (x3 + (1 : Int32)))]) C dX10_said_61 3 rfl (by decide) (Nat.le_of_ble_eq_true rfl) [1, 2, 3, 0] rfl ?_
        refine x_goto (tgt := 22) C dX10_said_64 (by decide) ?_
        exact ih x1 x2 (x3 + (1 : Int32)) _ hf
def f_said (n : Nat) (x1 : Int32) (σ : MS) : Option (Int32 × MS) := ev (si σ 0 (0 : Int32)) fun s1 => if (ga s1 14 290) = 0 then (some ((-1 : Int32), s1)) else (f_said_22 n n x1 (0 : Int32) (0 : Int32) s1)
set_option maxHeartbeats 4000000 in
theorem w_said_E {K : KT} {M : MT} {r : Int32} {τ : MS} (n : Nat) (C : Kok K cX10_said 4 RX10) (B : MB K M) (hr : (kMe K).sig.returnType = some .int) (dK : kR K = rmD 69) (hQ : KQm K M (some (.int r)) τ) (x1 : Int32) (σ : MS) (hf : f_said n x1 σ = some (r, τ)) : XJ K 4 (Wm K M σ) 0 [(0, .ref (mO M)), (1, .int x1)] [] := by
  unfold f_said at hf
  refine x_aload_n C dX10_said_0 0 rfl ?_
  refine x_iconst (0 : Int32) C dX10_said_1 (by decide) ?_
  refine mp_0 C B dX10_said_2 ?_
  obtain ⟨s1, es1, hf⟩ := pf_e hf
  refine m_ren es1 ?_
  refine x_aload_n C dX10_said_5 0 rfl ?_
  refine mg_14 C B dX10_said_6 ?_
  refine x_sipush (290 : Int32) C dX10_said_9 (by decide) ?_
  refine mlc_14 290 C B (by decide +kernel) dX10_said_12 ?_
  refine x_if_ne (tgt := 18) C dX10_said_13 (by decide) (fun c2 => ?_) (fun c2 => ?_)
  · have hf := pf_f c2 hf
    refine x_iconst (0 : Int32) C dX10_said_18 (by decide) ?_
    refine x_istore_n (L' := [(0, .ref (mO M)), (1, .int x1), (2, .int (0 : Int32))]) C dX10_said_19 (Nat.le_of_ble_eq_true rfl) [1, 2, 0] rfl ?_
    refine x_iconst (0 : Int32) C dX10_said_20 (by decide) ?_
    refine x_istore_n (L' := [(0, .ref (mO M)), (1, .int x1), (2, .int (0 : Int32)), (3, .int (0 : Int32))]) C dX10_said_21 (Nat.le_of_ble_eq_true rfl) [1, 2, 3, 0] rfl ?_
    exact w_said_22 n C B hr dK hQ n x1 (0 : Int32) (0 : Int32) _ hf
  · have hf := pf_t c2 hf
    refine x_iconst (-1 : Int32) C dX10_said_16 (by decide) ?_
    obtain ⟨rfl, rfl⟩ := Prod.mk.inj (Option.some.inj hf)
    exact m_iret C hr hQ dX10_said_17
theorem met_said {M : MT} {v : (Int32 × MS)} {n : Nat} {σ : MS} {x1 : Int32} {l : Launch} (hc : (mCl M)[mCi M]? = some (RX10, TX10, 61)) (hf : f_said n x1 σ = some v) : Met l yX10_said (ws_ yX10_said cX10_said 4 (some .int)) (rmD 69) (va_Pc [.ref (mO M), .int x1] (MU M σ)) (Qm M (some (.int v.1)) v.2) 0 0 (mAd M) :=
  m_met [.ref (mO M), .int x1] (by decide) rfl (Nat.le_of_ble_eq_true rfl) hc (fun K hl hR hr C B hQ => w_said_E _ C B hr hR hQ _ _ hf)
def f_image_51 (n : Nat) : Nat → Int32 → Int32 → MS → Option (Int32 × MS)
  | 0, _, _, _ => none
  | m + 1, x1, x2, σ => if (29 : Int32) ≤ x2 then (if inb x1 2 = true then ev (sa σ 22 (Int32.toNatClampNeg x1) (vp_nar .boolean (1 : Int32))) fun s3 => some ((1 : Int32), s3) else none) else (if inb x2 29 = true then if inb (((29 : Int32) * x1) + x2) 58 = true then ev (sb σ 21 (Int32.toNatClampNeg (((29 : Int32) * x1) + x2)) (gb σ 19 (Int32.toNatClampNeg x2))) fun s6 => f_image_51 n m x1 (x2 + (1 : Int32)) s6 else none else none)
set_option maxHeartbeats 4000000 in
theorem w_image_51 {K : KT} {M : MT} {r : Int32} {τ : MS} (n : Nat) (C : Kok K cX10_image 3 RX10) (B : MB K M) (hr : (kMe K).sig.returnType = some .boolean) (dK : kR K = rmD 2) (hQ : KQm K M (some (.int r)) τ) : ∀ (m : Nat) (x1 : Int32) (x2 : Int32) (σ : MS) (hf : f_image_51 n m x1 x2 σ = some (r, τ)), XJ K 3 (Wm K M σ) 51 [(0, .ref (mO M)), (1, .int x1), (2, .int x2)] [] := by
  intro m
  induction m with
  | zero => intro x1 x2 σ hf; cases hf
  | succ m ih =>
    intro x1 x2 σ hf
    rw [f_image_51] at hf
    refine x_iload_n C dX10_image_51 2 rfl ?_
    refine x_bipush (29 : Int32) C dX10_image_52 (by decide) ?_
    refine x_icmp_ge (tgt := 80) C dX10_image_54 (by decide) (fun c1 => ?_) (fun c1 => ?_)
    · have hf := pf_t c1 hf
      refine x_aload_n C dX10_image_80 0 rfl ?_
      refine mg_22 C B dX10_image_81 ?_
      refine x_iload_n C dX10_image_84 1 rfl ?_
      refine x_iconst (1 : Int32) C dX10_image_85 (by decide) ?_
      obtain ⟨h2, hf⟩ := pf_in hf
      refine ms_22 C B h2 dX10_image_86 ?_
      obtain ⟨s3, es3, hf⟩ := pf_e hf
      refine m_ren es3 ?_
      refine x_iconst (1 : Int32) C dX10_image_87 (by decide) ?_
      obtain ⟨rfl, rfl⟩ := Prod.mk.inj (Option.some.inj hf)
      exact m_zret C hr (Or.inr rfl) hQ dX10_image_88
    · have hf := pf_f c1 hf
      refine x_aload_n C dX10_image_57 0 rfl ?_
      refine mg_21 C B dX10_image_58 ?_
      refine x_bipush (29 : Int32) C dX10_image_61 (by decide) ?_
      refine x_iload_n C dX10_image_63 1 rfl ?_
      refine x_imul C dX10_image_64 ?_
      refine x_iload_n C dX10_image_65 2 rfl ?_
      refine x_iadd C dX10_image_66 ?_
      refine x_aload_n C dX10_image_67 0 rfl ?_
      refine mg_19 C B dX10_image_68 ?_
      refine x_iload_n C dX10_image_71 2 rfl ?_
      obtain ⟨h4, hf⟩ := pf_in hf
      refine ml_19 C B h4 dX10_image_72 ?_
      obtain ⟨h5, hf⟩ := pf_in hf
      refine ms_21 C B h5 dX10_image_73 ?_
      obtain ⟨s6, es6, hf⟩ := pf_e hf
      refine m_ren es6 ?_
      refine x_inc (c := (1 : Int32)) (L' := [(0, .ref (mO M)), (1, .int x1), (2, .int (x2 + (1 : Int32)))]) C dX10_image_74 2 rfl (by decide) (Nat.le_of_ble_eq_true rfl) [1, 2, 0] rfl ?_
      refine x_goto (tgt := 51) C dX10_image_77 (by decide) ?_
      exact ih x1 (x2 + (1 : Int32)) _ hf
theorem bz_image_51 {r : Int32} {τ : MS} {n : Nat} : ∀ (m : Nat) (x1 : Int32) (x2 : Int32) (σ : MS) (hf : f_image_51 n m x1 x2 σ = some (r, τ)), r = 0 ∨ r = 1 := by
  intro m
  induction m with
  | zero => intro x1 x2 σ hf; cases hf
  | succ m ih =>
    intro x1 x2 σ hf
    rw [f_image_51] at hf
    by_cases c1 : (29 : Int32) ≤ x2
    · have hf := pf_t c1 hf
      obtain ⟨h2, hf⟩ := pf_in hf
      obtain ⟨s3, es3, hf⟩ := pf_e hf
      obtain ⟨rfl, rfl⟩ := Prod.mk.inj (Option.some.inj hf)
      exact (Or.inr rfl)
    · have hf := pf_f c1 hf
      obtain ⟨h4, hf⟩ := pf_in hf
      obtain ⟨h5, hf⟩ := pf_in hf
      obtain ⟨s6, es6, hf⟩ := pf_e hf
      exact ih x1 (x2 + (1 : Int32)) _ hf
def f_image_18 (n : Nat) : Nat → Int32 → Int32 → MS → Option (Int32 × MS)
  | 0, _, _, _ => none
  | m + 1, x1, x2, σ => if (532 : Int32) ≤ x2 then (f_image_51 n n x1 (0 : Int32) σ) else (if inb x2 532 = true then if inb (((532 : Int32) * x1) + x2) 1064 = true then ev (sa σ 16 (Int32.toNatClampNeg (((532 : Int32) * x1) + x2)) (ga σ 14 (Int32.toNatClampNeg x2))) fun s4 => f_image_18 n m x1 (x2 + (1 : Int32)) s4 else none else none)
set_option maxHeartbeats 4000000 in
theorem w_image_18 {K : KT} {M : MT} {r : Int32} {τ : MS} (n : Nat) (C : Kok K cX10_image 3 RX10) (B : MB K M) (hr : (kMe K).sig.returnType = some .boolean) (dK : kR K = rmD 2) (hQ : KQm K M (some (.int r)) τ) : ∀ (m : Nat) (x1 : Int32) (x2 : Int32) (σ : MS) (hf : f_image_18 n m x1 x2 σ = some (r, τ)), XJ K 3 (Wm K M σ) 18 [(0, .ref (mO M)), (1, .int x1), (2, .int x2)] [] := by
  intro m
  induction m with
  | zero => intro x1 x2 σ hf; cases hf
  | succ m ih =>
    intro x1 x2 σ hf
    rw [f_image_18] at hf
    refine x_iload_n C dX10_image_18 2 rfl ?_
    refine x_sipush (532 : Int32) C dX10_image_19 (by decide) ?_
    refine x_icmp_ge (tgt := 49) C dX10_image_22 (by decide) (fun c1 => ?_) (fun c1 => ?_)
    · have hf := pf_t c1 hf
      refine x_iconst (0 : Int32) C dX10_image_49 (by decide) ?_
      refine x_istore_n (L' := [(0, .ref (mO M)), (1, .int x1), (2, .int (0 : Int32))]) C dX10_image_50 (Nat.le_of_ble_eq_true rfl) [1, 2, 0] rfl ?_
      exact w_image_51 n C B hr dK hQ n x1 (0 : Int32) _ hf
    · have hf := pf_f c1 hf
      refine x_aload_n C dX10_image_25 0 rfl ?_
      refine mg_16 C B dX10_image_26 ?_
      refine x_sipush (532 : Int32) C dX10_image_29 (by decide) ?_
      refine x_iload_n C dX10_image_32 1 rfl ?_
      refine x_imul C dX10_image_33 ?_
      refine x_iload_n C dX10_image_34 2 rfl ?_
      refine x_iadd C dX10_image_35 ?_
      refine x_aload_n C dX10_image_36 0 rfl ?_
      refine mg_14 C B dX10_image_37 ?_
      refine x_iload_n C dX10_image_40 2 rfl ?_
      obtain ⟨h2, hf⟩ := pf_in hf
      refine ml_14 C B h2 dX10_image_41 ?_
      obtain ⟨h3, hf⟩ := pf_in hf
      refine ms_16 C B h3 dX10_image_42 ?_
      obtain ⟨s4, es4, hf⟩ := pf_e hf
      refine m_ren es4 ?_
      refine x_inc (c := (1 : Int32)) (L' := [(0, .ref (mO M)), (1, .int x1), (2, .int (x2 + (1 : Int32)))]) C dX10_image_43 2 rfl (by decide) (Nat.le_of_ble_eq_true rfl) [1, 2, 0] rfl ?_
      refine x_goto (tgt := 18) C dX10_image_46 (by decide) ?_
      exact ih x1 (x2 + (1 : Int32)) _ hf
theorem bz_image_18 {r : Int32} {τ : MS} {n : Nat} : ∀ (m : Nat) (x1 : Int32) (x2 : Int32) (σ : MS) (hf : f_image_18 n m x1 x2 σ = some (r, τ)), r = 0 ∨ r = 1 := by
  intro m
  induction m with
  | zero => intro x1 x2 σ hf; cases hf
  | succ m ih =>
    intro x1 x2 σ hf
    rw [f_image_18] at hf
    by_cases c1 : (532 : Int32) ≤ x2
    · have hf := pf_t c1 hf
      exact bz_image_51 n x1 (0 : Int32) _ hf
    · have hf := pf_f c1 hf
      obtain ⟨h2, hf⟩ := pf_in hf
      obtain ⟨h3, hf⟩ := pf_in hf
      obtain ⟨s4, es4, hf⟩ := pf_e hf
      exact ih x1 (x2 + (1 : Int32)) _ hf
def f_image (n : Nat) (x1 : Int32) (σ : MS) : Option (Int32 × MS) := ev (si σ 0 (0 : Int32)) fun s1 => if (f_isIn x1 (0 : Int32) (1 : Int32)) = 0 then (some ((0 : Int32), s1)) else (f_image_18 n n x1 (0 : Int32) s1)
set_option maxHeartbeats 4000000 in
theorem w_image_E {K : KT} {M : MT} {r : Int32} {τ : MS} (n : Nat) (C : Kok K cX10_image 3 RX10) (B : MB K M) (hr : (kMe K).sig.returnType = some .boolean) (dK : kR K = rmD 2) (hQ : KQm K M (some (.int r)) τ) (x1 : Int32) (σ : MS) (hf : f_image n x1 σ = some (r, τ)) : XJ K 3 (Wm K M σ) 0 [(0, .ref (mO M)), (1, .int x1)] [] := by
  unfold f_image at hf
  refine x_aload_n C dX10_image_0 0 rfl ?_
  refine x_iconst (0 : Int32) C dX10_image_1 (by decide) ?_
  refine mp_0 C B dX10_image_2 ?_
  obtain ⟨s1, es1, hf⟩ := pf_e hf
  refine m_ren es1 ?_
  refine x_iload_n C dX10_image_5 1 rfl ?_
  refine x_iconst (0 : Int32) C dX10_image_6 (by decide) ?_
  refine x_iconst (1 : Int32) C dX10_image_7 (by decide) ?_
  refine mc_isIn C B dK (Nat.le_of_ble_eq_true rfl) rfl (Nat.le_of_ble_eq_true rfl) dX10_image_8 ?_
  refine x_if_ne (tgt := 16) C dX10_image_11 (by decide) (fun c2 => ?_) (fun c2 => ?_)
  · have hf := pf_f c2 hf
    refine x_iconst (0 : Int32) C dX10_image_16 (by decide) ?_
    refine x_istore_n (L' := [(0, .ref (mO M)), (1, .int x1), (2, .int (0 : Int32))]) C dX10_image_17 (Nat.le_of_ble_eq_true rfl) [1, 2, 0] rfl ?_
    exact w_image_18 n C B hr dK hQ n x1 (0 : Int32) _ hf
  · have hf := pf_t c2 hf
    refine x_iconst (0 : Int32) C dX10_image_14 (by decide) ?_
    obtain ⟨rfl, rfl⟩ := Prod.mk.inj (Option.some.inj hf)
    exact m_zret C hr (Or.inl rfl) hQ dX10_image_15
theorem bz_image_E {r : Int32} {τ : MS} {n : Nat} {x1 : Int32} {σ : MS} (hf : f_image n x1 σ = some (r, τ)) : r = 0 ∨ r = 1 := by
  unfold f_image at hf
  obtain ⟨s1, es1, hf⟩ := pf_e hf
  by_cases c2 : (f_isIn x1 (0 : Int32) (1 : Int32)) = 0
  · have hf := pf_t c2 hf
    obtain ⟨rfl, rfl⟩ := Prod.mk.inj (Option.some.inj hf)
    exact (Or.inl rfl)
  · have hf := pf_f c2 hf
    exact bz_image_18 n x1 (0 : Int32) _ hf
theorem met_image {M : MT} {v : (Int32 × MS)} {n : Nat} {σ : MS} {x1 : Int32} {l : Launch} (hc : (mCl M)[mCi M]? = some (RX10, TX10, 61)) (hf : f_image n x1 σ = some v) : Met l yX10_image (ws_ yX10_image cX10_image 3 (some .boolean)) (rmD 2) (va_Pc [.ref (mO M), .int x1] (MU M σ)) (Qm M (some (.int v.1)) v.2) 0 0 (mAd M) :=
  m_met [.ref (mO M), .int x1] (by decide) rfl (Nat.le_of_ble_eq_true rfl) hc (fun K hl hR hr C B hQ => w_image_E _ C B hr hR hQ _ _ hf)
def f_restore_60 (n : Nat) : Nat → Int32 → Int32 → MS → Option (Int32 × MS)
  | 0, _, _, _ => none
  | m + 1, x1, x2, σ => if (29 : Int32) ≤ x2 then (ev (si σ 24 (0 : Int32)) fun s2 => some ((1 : Int32), s2)) else (if inb (((29 : Int32) * x1) + x2) 58 = true then if inb x2 29 = true then ev (sb σ 19 (Int32.toNatClampNeg x2) (gb σ 21 (Int32.toNatClampNeg (((29 : Int32) * x1) + x2)))) fun s5 => f_restore_60 n m x1 (x2 + (1 : Int32)) s5 else none else none)
set_option maxHeartbeats 4000000 in
theorem w_restore_60 {K : KT} {M : MT} {r : Int32} {τ : MS} (n : Nat) (C : Kok K cX10_restore 3 RX10) (B : MB K M) (hr : (kMe K).sig.returnType = some .boolean) (dK : kR K = rmD 2) (hQ : KQm K M (some (.int r)) τ) : ∀ (m : Nat) (x1 : Int32) (x2 : Int32) (σ : MS) (hf : f_restore_60 n m x1 x2 σ = some (r, τ)), XJ K 3 (Wm K M σ) 60 [(0, .ref (mO M)), (1, .int x1), (2, .int x2)] [] := by
  intro m
  induction m with
  | zero => intro x1 x2 σ hf; cases hf
  | succ m ih =>
    intro x1 x2 σ hf
    rw [f_restore_60] at hf
    refine x_iload_n C dX10_restore_60 2 rfl ?_
    refine x_bipush (29 : Int32) C dX10_restore_61 (by decide) ?_
    refine x_icmp_ge (tgt := 89) C dX10_restore_63 (by decide) (fun c1 => ?_) (fun c1 => ?_)
    · have hf := pf_t c1 hf
      refine x_aload_n C dX10_restore_89 0 rfl ?_
      refine x_iconst (0 : Int32) C dX10_restore_90 (by decide) ?_
      refine mp_24 C B dX10_restore_91 ?_
      obtain ⟨s2, es2, hf⟩ := pf_e hf
      refine m_ren es2 ?_
      refine x_iconst (1 : Int32) C dX10_restore_94 (by decide) ?_
      obtain ⟨rfl, rfl⟩ := Prod.mk.inj (Option.some.inj hf)
      exact m_zret C hr (Or.inr rfl) hQ dX10_restore_95
    · have hf := pf_f c1 hf
      refine x_aload_n C dX10_restore_66 0 rfl ?_
      refine mg_19 C B dX10_restore_67 ?_
      refine x_iload_n C dX10_restore_70 2 rfl ?_
      refine x_aload_n C dX10_restore_71 0 rfl ?_
      refine mg_21 C B dX10_restore_72 ?_
      refine x_bipush (29 : Int32) C dX10_restore_75 (by decide) ?_
      refine x_iload_n C dX10_restore_77 1 rfl ?_
      refine x_imul C dX10_restore_78 ?_
      refine x_iload_n C dX10_restore_79 2 rfl ?_
      refine x_iadd C dX10_restore_80 ?_
      obtain ⟨h3, hf⟩ := pf_in hf
      refine ml_21 C B h3 dX10_restore_81 ?_
      obtain ⟨h4, hf⟩ := pf_in hf
      refine ms_19 C B h4 dX10_restore_82 ?_
      obtain ⟨s5, es5, hf⟩ := pf_e hf
      refine m_ren es5 ?_
      refine x_inc (c := (1 : Int32)) (L' := [(0, .ref (mO M)), (1, .int x1), (2, .int (x2 + (1 : Int32)))]) C dX10_restore_83 2 rfl (by decide) (Nat.le_of_ble_eq_true rfl) [1, 2, 0] rfl ?_
      refine x_goto (tgt := 60) C dX10_restore_86 (by decide) ?_
      exact ih x1 (x2 + (1 : Int32)) _ hf
theorem bz_restore_60 {r : Int32} {τ : MS} {n : Nat} : ∀ (m : Nat) (x1 : Int32) (x2 : Int32) (σ : MS) (hf : f_restore_60 n m x1 x2 σ = some (r, τ)), r = 0 ∨ r = 1 := by
  intro m
  induction m with
  | zero => intro x1 x2 σ hf; cases hf
  | succ m ih =>
    intro x1 x2 σ hf
    rw [f_restore_60] at hf
    by_cases c1 : (29 : Int32) ≤ x2
    · have hf := pf_t c1 hf
      obtain ⟨s2, es2, hf⟩ := pf_e hf
      obtain ⟨rfl, rfl⟩ := Prod.mk.inj (Option.some.inj hf)
      exact (Or.inr rfl)
    · have hf := pf_f c1 hf
      obtain ⟨h3, hf⟩ := pf_in hf
      obtain ⟨h4, hf⟩ := pf_in hf
      obtain ⟨s5, es5, hf⟩ := pf_e hf
      exact ih x1 (x2 + (1 : Int32)) _ hf
def f_restore_27 (n : Nat) : Nat → Int32 → Int32 → MS → Option (Int32 × MS)
  | 0, _, _, _ => none
  | m + 1, x1, x2, σ => if (532 : Int32) ≤ x2 then (f_restore_60 n n x1 (0 : Int32) σ) else (if inb (((532 : Int32) * x1) + x2) 1064 = true then if inb x2 532 = true then ev (sa σ 14 (Int32.toNatClampNeg x2) (ga σ 16 (Int32.toNatClampNeg (((532 : Int32) * x1) + x2)))) fun s4 => f_restore_27 n m x1 (x2 + (1 : Int32)) s4 else none else none)
set_option maxHeartbeats 4000000 in
theorem w_restore_27 {K : KT} {M : MT} {r : Int32} {τ : MS} (n : Nat) (C : Kok K cX10_restore 3 RX10) (B : MB K M) (hr : (kMe K).sig.returnType = some .boolean) (dK : kR K = rmD 2) (hQ : KQm K M (some (.int r)) τ) : ∀ (m : Nat) (x1 : Int32) (x2 : Int32) (σ : MS) (hf : f_restore_27 n m x1 x2 σ = some (r, τ)), XJ K 3 (Wm K M σ) 27 [(0, .ref (mO M)), (1, .int x1), (2, .int x2)] [] := by
  intro m
  induction m with
  | zero => intro x1 x2 σ hf; cases hf
  | succ m ih =>
    intro x1 x2 σ hf
    rw [f_restore_27] at hf
    refine x_iload_n C dX10_restore_27 2 rfl ?_
    refine x_sipush (532 : Int32) C dX10_restore_28 (by decide) ?_
    refine x_icmp_ge (tgt := 58) C dX10_restore_31 (by decide) (fun c1 => ?_) (fun c1 => ?_)
    · have hf := pf_t c1 hf
      refine x_iconst (0 : Int32) C dX10_restore_58 (by decide) ?_
      refine x_istore_n (L' := [(0, .ref (mO M)), (1, .int x1), (2, .int (0 : Int32))]) C dX10_restore_59 (Nat.le_of_ble_eq_true rfl) [1, 2, 0] rfl ?_
      exact w_restore_60 n C B hr dK hQ n x1 (0 : Int32) _ hf
    · have hf := pf_f c1 hf
      refine x_aload_n C dX10_restore_34 0 rfl ?_
      refine mg_14 C B dX10_restore_35 ?_
      refine x_iload_n C dX10_restore_38 2 rfl ?_
      refine x_aload_n C dX10_restore_39 0 rfl ?_
      refine mg_16 C B dX10_restore_40 ?_
      refine x_sipush (532 : Int32) C dX10_restore_43 (by decide) ?_
      refine x_iload_n C dX10_restore_46 1 rfl ?_
      refine x_imul C dX10_restore_47 ?_
      refine x_iload_n C dX10_restore_48 2 rfl ?_
      refine x_iadd C dX10_restore_49 ?_
      obtain ⟨h2, hf⟩ := pf_in hf
      refine ml_16 C B h2 dX10_restore_50 ?_
      obtain ⟨h3, hf⟩ := pf_in hf
      refine ms_14 C B h3 dX10_restore_51 ?_
      obtain ⟨s4, es4, hf⟩ := pf_e hf
      refine m_ren es4 ?_
      refine x_inc (c := (1 : Int32)) (L' := [(0, .ref (mO M)), (1, .int x1), (2, .int (x2 + (1 : Int32)))]) C dX10_restore_52 2 rfl (by decide) (Nat.le_of_ble_eq_true rfl) [1, 2, 0] rfl ?_
      refine x_goto (tgt := 27) C dX10_restore_55 (by decide) ?_
      exact ih x1 (x2 + (1 : Int32)) _ hf
theorem bz_restore_27 {r : Int32} {τ : MS} {n : Nat} : ∀ (m : Nat) (x1 : Int32) (x2 : Int32) (σ : MS) (hf : f_restore_27 n m x1 x2 σ = some (r, τ)), r = 0 ∨ r = 1 := by
  intro m
  induction m with
  | zero => intro x1 x2 σ hf; cases hf
  | succ m ih =>
    intro x1 x2 σ hf
    rw [f_restore_27] at hf
    by_cases c1 : (532 : Int32) ≤ x2
    · have hf := pf_t c1 hf
      exact bz_restore_60 n x1 (0 : Int32) _ hf
    · have hf := pf_f c1 hf
      obtain ⟨h2, hf⟩ := pf_in hf
      obtain ⟨h3, hf⟩ := pf_in hf
      obtain ⟨s4, es4, hf⟩ := pf_e hf
      exact ih x1 (x2 + (1 : Int32)) _ hf
def f_restore (n : Nat) (x1 : Int32) (σ : MS) : Option (Int32 × MS) := ev (si σ 0 (0 : Int32)) fun s1 => if (f_isIn x1 (0 : Int32) (1 : Int32)) = 0 then (some ((0 : Int32), s1)) else (if inb x1 2 = true then if (ga s1 22 (Int32.toNatClampNeg x1)) = 0 then (some ((0 : Int32), s1)) else (f_restore_27 n n x1 (0 : Int32) s1) else none)
set_option maxHeartbeats 4000000 in
theorem w_restore_E {K : KT} {M : MT} {r : Int32} {τ : MS} (n : Nat) (C : Kok K cX10_restore 3 RX10) (B : MB K M) (hr : (kMe K).sig.returnType = some .boolean) (dK : kR K = rmD 2) (hQ : KQm K M (some (.int r)) τ) (x1 : Int32) (σ : MS) (hf : f_restore n x1 σ = some (r, τ)) : XJ K 3 (Wm K M σ) 0 [(0, .ref (mO M)), (1, .int x1)] [] := by
  unfold f_restore at hf
  refine x_aload_n C dX10_restore_0 0 rfl ?_
  refine x_iconst (0 : Int32) C dX10_restore_1 (by decide) ?_
  refine mp_0 C B dX10_restore_2 ?_
  obtain ⟨s1, es1, hf⟩ := pf_e hf
  refine m_ren es1 ?_
  refine x_iload_n C dX10_restore_5 1 rfl ?_
  refine x_iconst (0 : Int32) C dX10_restore_6 (by decide) ?_
  refine x_iconst (1 : Int32) C dX10_restore_7 (by decide) ?_
  refine mc_isIn C B dK (Nat.le_of_ble_eq_true rfl) rfl (Nat.le_of_ble_eq_true rfl) dX10_restore_8 ?_
  refine x_if_eq (tgt := 23) C dX10_restore_11 (by decide) (fun c2 => ?_) (fun c2 => ?_)
  · have hf := pf_t c2 hf
    refine x_iconst (0 : Int32) C dX10_restore_23 (by decide) ?_
    obtain ⟨rfl, rfl⟩ := Prod.mk.inj (Option.some.inj hf)
    exact m_zret C hr (Or.inl rfl) hQ dX10_restore_24
  · have hf := pf_f c2 hf
    refine x_aload_n C dX10_restore_14 0 rfl ?_
    refine mg_22 C B dX10_restore_15 ?_
    refine x_iload_n C dX10_restore_18 1 rfl ?_
    obtain ⟨h3, hf⟩ := pf_in hf
    refine ml_22 C B h3 dX10_restore_19 ?_
    refine x_if_ne (tgt := 25) C dX10_restore_20 (by decide) (fun c4 => ?_) (fun c4 => ?_)
    · have hf := pf_f c4 hf
      refine x_iconst (0 : Int32) C dX10_restore_25 (by decide) ?_
      refine x_istore_n (L' := [(0, .ref (mO M)), (1, .int x1), (2, .int (0 : Int32))]) C dX10_restore_26 (Nat.le_of_ble_eq_true rfl) [1, 2, 0] rfl ?_
      exact w_restore_27 n C B hr dK hQ n x1 (0 : Int32) _ hf
    · have hf := pf_t c4 hf
      refine x_iconst (0 : Int32) C dX10_restore_23 (by decide) ?_
      obtain ⟨rfl, rfl⟩ := Prod.mk.inj (Option.some.inj hf)
      exact m_zret C hr (Or.inl rfl) hQ dX10_restore_24
theorem bz_restore_E {r : Int32} {τ : MS} {n : Nat} {x1 : Int32} {σ : MS} (hf : f_restore n x1 σ = some (r, τ)) : r = 0 ∨ r = 1 := by
  unfold f_restore at hf
  obtain ⟨s1, es1, hf⟩ := pf_e hf
  by_cases c2 : (f_isIn x1 (0 : Int32) (1 : Int32)) = 0
  · have hf := pf_t c2 hf
    obtain ⟨rfl, rfl⟩ := Prod.mk.inj (Option.some.inj hf)
    exact (Or.inl rfl)
  · have hf := pf_f c2 hf
    obtain ⟨h3, hf⟩ := pf_in hf
    by_cases c4 : (ga s1 22 (Int32.toNatClampNeg x1)) = 0
    · have hf := pf_t c4 hf
      obtain ⟨rfl, rfl⟩ := Prod.mk.inj (Option.some.inj hf)
      exact (Or.inl rfl)
    · have hf := pf_f c4 hf
      exact bz_restore_27 n x1 (0 : Int32) _ hf
theorem met_restore {M : MT} {v : (Int32 × MS)} {n : Nat} {σ : MS} {x1 : Int32} {l : Launch} (hc : (mCl M)[mCi M]? = some (RX10, TX10, 61)) (hf : f_restore n x1 σ = some v) : Met l yX10_restore (ws_ yX10_restore cX10_restore 3 (some .boolean)) (rmD 2) (va_Pc [.ref (mO M), .int x1] (MU M σ)) (Qm M (some (.int v.1)) v.2) 0 0 (mAd M) :=
  m_met [.ref (mO M), .int x1] (by decide) rfl (Nat.le_of_ble_eq_true rfl) hc (fun K hl hR hr C B hQ => w_restore_E _ C B hr hR hQ _ _ hf)
def f_count (x1 : Int32) (σ : MS) : (Int32 × MS) := ev (si σ 0 (0 : Int32)) fun s1 => if x1 = (0 : Int32) then ((ga s1 14 0, s1)) else (if x1 = (1 : Int32) then ((ga s1 14 1, s1)) else (if x1 = (2 : Int32) then ((ga s1 14 2, s1)) else (if x1 = (3 : Int32) then ((ga s1 14 3, s1)) else (if x1 = (4 : Int32) then ((ga s1 14 4, s1)) else (if x1 = (5 : Int32) then ((ga s1 14 5, s1)) else (if x1 = (6 : Int32) then ((gi s1 2, s1)) else (((-1 : Int32), s1))))))))
set_option maxHeartbeats 4000000 in
theorem w_count_E {K : KT} {M : MT} {r : Int32} {τ : MS} (C : Kok K cX10_count 2 RX10) (B : MB K M) (hr : (kMe K).sig.returnType = some .int) (dK : kR K = rmD 1) (hQ : KQm K M (some (.int r)) τ) (x1 : Int32) (σ : MS) (hf : f_count x1 σ = (r, τ)) : XJ K 2 (Wm K M σ) 0 [(0, .ref (mO M)), (1, .int x1)] [] := by
  unfold f_count at hf
  refine x_aload_n C dX10_count_0 0 rfl ?_
  refine x_iconst (0 : Int32) C dX10_count_1 (by decide) ?_
  refine mp_0 C B dX10_count_2 ?_
  obtain ⟨s1, es1, hf⟩ := pf_e hf
  refine m_ren es1 ?_
  refine x_iload_n C dX10_count_5 1 rfl ?_
  by_cases c2 : x1 = (0 : Int32)
  · have hf := pf_t c2 hf
    refine x_tableIn (off := 42) (tgt := 48) C dX10_count_6 (by rw [c2]; decide) (by rw [c2]; decide) (by rw [c2]; decide) (by decide) ?_
    refine x_aload_n C dX10_count_48 0 rfl ?_
    refine mg_14 C B dX10_count_49 ?_
    refine x_iconst (0 : Int32) C dX10_count_52 (by decide) ?_
    refine mlc_14 0 C B (by decide +kernel) dX10_count_53 ?_
    obtain ⟨rfl, rfl⟩ := Prod.mk.inj hf
    exact m_iret C hr hQ dX10_count_54
  · have hf := pf_f c2 hf
    by_cases c3 : x1 = (1 : Int32)
    · have hf := pf_t c3 hf
      refine x_tableIn (off := 49) (tgt := 55) C dX10_count_6 (by rw [c3]; decide) (by rw [c3]; decide) (by rw [c3]; decide) (by decide) ?_
      refine x_aload_n C dX10_count_55 0 rfl ?_
      refine mg_14 C B dX10_count_56 ?_
      refine x_iconst (1 : Int32) C dX10_count_59 (by decide) ?_
      refine mlc_14 1 C B (by decide +kernel) dX10_count_60 ?_
      obtain ⟨rfl, rfl⟩ := Prod.mk.inj hf
      exact m_iret C hr hQ dX10_count_61
    · have hf := pf_f c3 hf
      by_cases c4 : x1 = (2 : Int32)
      · have hf := pf_t c4 hf
        refine x_tableIn (off := 56) (tgt := 62) C dX10_count_6 (by rw [c4]; decide) (by rw [c4]; decide) (by rw [c4]; decide) (by decide) ?_
        refine x_aload_n C dX10_count_62 0 rfl ?_
        refine mg_14 C B dX10_count_63 ?_
        refine x_iconst (2 : Int32) C dX10_count_66 (by decide) ?_
        refine mlc_14 2 C B (by decide +kernel) dX10_count_67 ?_
        obtain ⟨rfl, rfl⟩ := Prod.mk.inj hf
        exact m_iret C hr hQ dX10_count_68
      · have hf := pf_f c4 hf
        by_cases c5 : x1 = (3 : Int32)
        · have hf := pf_t c5 hf
          refine x_tableIn (off := 63) (tgt := 69) C dX10_count_6 (by rw [c5]; decide) (by rw [c5]; decide) (by rw [c5]; decide) (by decide) ?_
          refine x_aload_n C dX10_count_69 0 rfl ?_
          refine mg_14 C B dX10_count_70 ?_
          refine x_iconst (3 : Int32) C dX10_count_73 (by decide) ?_
          refine mlc_14 3 C B (by decide +kernel) dX10_count_74 ?_
          obtain ⟨rfl, rfl⟩ := Prod.mk.inj hf
          exact m_iret C hr hQ dX10_count_75
        · have hf := pf_f c5 hf
          by_cases c6 : x1 = (4 : Int32)
          · have hf := pf_t c6 hf
            refine x_tableIn (off := 70) (tgt := 76) C dX10_count_6 (by rw [c6]; decide) (by rw [c6]; decide) (by rw [c6]; decide) (by decide) ?_
            refine x_aload_n C dX10_count_76 0 rfl ?_
            refine mg_14 C B dX10_count_77 ?_
            refine x_iconst (4 : Int32) C dX10_count_80 (by decide) ?_
            refine mlc_14 4 C B (by decide +kernel) dX10_count_81 ?_
            obtain ⟨rfl, rfl⟩ := Prod.mk.inj hf
            exact m_iret C hr hQ dX10_count_82
          · have hf := pf_f c6 hf
            by_cases c7 : x1 = (5 : Int32)
            · have hf := pf_t c7 hf
              refine x_tableIn (off := 77) (tgt := 83) C dX10_count_6 (by rw [c7]; decide) (by rw [c7]; decide) (by rw [c7]; decide) (by decide) ?_
              refine x_aload_n C dX10_count_83 0 rfl ?_
              refine mg_14 C B dX10_count_84 ?_
              refine x_iconst (5 : Int32) C dX10_count_87 (by decide) ?_
              refine mlc_14 5 C B (by decide +kernel) dX10_count_88 ?_
              obtain ⟨rfl, rfl⟩ := Prod.mk.inj hf
              exact m_iret C hr hQ dX10_count_89
            · have hf := pf_f c7 hf
              by_cases c8 : x1 = (6 : Int32)
              · have hf := pf_t c8 hf
                refine x_tableIn (off := 84) (tgt := 90) C dX10_count_6 (by rw [c8]; decide) (by rw [c8]; decide) (by rw [c8]; decide) (by decide) ?_
                refine x_aload_n C dX10_count_90 0 rfl ?_
                refine mg_2 C B dX10_count_91 ?_
                obtain ⟨rfl, rfl⟩ := Prod.mk.inj hf
                exact m_iret C hr hQ dX10_count_94
              · have hf := pf_f c8 hf
                refine x_tableOut (tgt := 95) C dX10_count_6 (by have := lv_neT c2 (show (0 : Int32).toInt = (0 : Int) by decide); have := lv_neT c3 (show (1 : Int32).toInt = (1 : Int) by decide); have := lv_neT c4 (show (2 : Int32).toInt = (2 : Int) by decide); have := lv_neT c5 (show (3 : Int32).toInt = (3 : Int) by decide); have := lv_neT c6 (show (4 : Int32).toInt = (4 : Int) by decide); have := lv_neT c7 (show (5 : Int32).toInt = (5 : Int) by decide); have := lv_neT c8 (show (6 : Int32).toInt = (6 : Int) by decide); omega) (by decide) ?_
                refine x_iconst (-1 : Int32) C dX10_count_95 (by decide) ?_
                obtain ⟨rfl, rfl⟩ := Prod.mk.inj hf
                exact m_iret C hr hQ dX10_count_96
theorem met_count {M : MT} {v : (Int32 × MS)} {σ : MS} {x1 : Int32} {l : Launch} (hc : (mCl M)[mCi M]? = some (RX10, TX10, 61)) (hf : f_count x1 σ = v) : Met l yX10_count (ws_ yX10_count cX10_count 2 (some .int)) (rmD 1) (va_Pc [.ref (mO M), .int x1] (MU M σ)) (Qm M (some (.int v.1)) v.2) 0 0 (mAd M) :=
  m_met [.ref (mO M), .int x1] (by decide) rfl (Nat.le_of_ble_eq_true rfl) hc (fun K hl hR hr C B hQ => w_count_E C B hr hR hQ _ _ hf)
