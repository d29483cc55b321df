set_option maxRecDepth 100000
theorem k_X3_init_X1 {K : KT} {T : CT} {c0 s0 c1 s1 dk : Nat} {cc : ByteArray} {nL pc : Nat} {L : List (Nat × Value)} {rest : List Value} {g : CG} {d : CD} {v : (SR Unit)} {x0 : Nat} (C : Kok K cc nL RX1) (B : CB K T) (dK : kR K = rmC dk c1 s1) (hd : 3 + 1 ≤ dk) (hcs : c0 + v.2.2.2.1 ≤ c1 ∧ s0 + v.2.2.2.2 ≤ s1) (hf : f_X3_init x0 g d = some v) (hW : (rest.map fun v => v.category).sum ≤ 8) (dd : decode cc pc = .ok (.invokespecial 79, 3)) (kk2 : XJ K nL (Wc K T (c0 + v.2.2.2.1) (s0 + v.2.2.2.2) v.2.1 v.2.2.1) (pc + 3) L (rest)) : XJ K nL (Wc K T c0 s0 g d) pc L (.ref x0 :: rest) := by
  exact c_callIN (rest := rest) (v := none) [] 0 rfl C B dK hd (Nat.le_of_ble_eq_true rfl) hcs q263 q261 q262 q125 rfl (by decide +kernel) (met_X3_init hf) rfl hW dd kk2
theorem k_X7_read_X1 {K : KT} {T : CT} {c0 s0 c1 s1 dk : Nat} {cc : ByteArray} {nL pc : Nat} {L : List (Nat × Value)} {rest : List Value} {g : CG} {d : CD} {v : (XR Int32)} {n : Nat} {x0 : Nat} {x1 : Nat} (C : Kok K cc nL RX1) (B : CB K T) (hta : ht g x0 = 6) (dK : kR K = rmC dk c1 s1) (hd : 13 + 1 ≤ dk) (hcs : c0 + v.2.2.2.1 ≤ c1 ∧ s0 + v.2.2.2.2 ≤ s1) (hf : f_X7_read n x0 x1 g d = some v) (hW : (rest.map fun v => v.category).sum ≤ 8) (dd : decode cc pc = .ok (.invokevirtual 190, 3)) (kx : ∀ q, v.1 = .inr q → XT K nL (Wc K T (c0 + v.2.2.2.1) (s0 + v.2.2.2.2) v.2.1 v.2.2.1) pc L rest q) (kk2 : ∀ r, v.1 = .inl r → XJ K nL (Wc K T (c0 + v.2.2.2.1) (s0 + v.2.2.2.2) v.2.1 v.2.2.1) (pc + 3) L ((.int r) :: rest)) : XJ K nL (Wc K T c0 s0 g d) pc L (.ref x1 :: .ref x0 :: rest) := by
  have kk3 : ∀ w, xoI v.1 = .inl w → XJ K nL (Wc K T (c0 + v.2.2.2.1) (s0 + v.2.2.2.2) v.2.1 v.2.2.1) (pc + 3) L (w.toList ++ rest) := fun w h => by
    obtain ⟨r, e1, rfl⟩ := xoI_l h
    exact kk2 r e1
  have kx3 : ∀ q, xoI v.1 = .inr q → XT K nL (Wc K T (c0 + v.2.2.2.1) (s0 + v.2.2.2.2) v.2.1 v.2.2.1) pc L rest q := fun q h => kx q (xoI_r h)
  exact cx_callV (rest := rest) (o := xoI v.1) [.ref x1] 1 rfl C B hta (by decide) (by decide) rfl dK hd (Nat.le_of_ble_eq_true rfl) hcs (lw_V q763 q764 q765 q129 q766) (by decide +kernel) (met_X7_read hf) rfl hW dd kx3 kk3
theorem k_X3_lays_X1 {K : KT} {T : CT} {c0 s0 c1 s1 dk : Nat} {cc : ByteArray} {nL pc : Nat} {L : List (Nat × Value)} {rest : List Value} {g : CG} {d : CD} {v : (SR Unit)} {n : Nat} {x0 : Nat} (C : Kok K cc nL RX1) (B : CB K T) (hta : ht g x0 = 3) (dK : kR K = rmC dk c1 s1) (hd : 4 + 1 ≤ dk) (hcs : c0 + v.2.2.2.1 ≤ c1 ∧ s0 + v.2.2.2.2 ≤ s1) (hf : f_X3_lays n x0 g d = some v) (hW : (rest.map fun v => v.category).sum ≤ 8) (dd : decode cc pc = .ok (.invokevirtual 194, 3)) (kk2 : XJ K nL (Wc K T (c0 + v.2.2.2.1) (s0 + v.2.2.2.2) v.2.1 v.2.2.1) (pc + 3) L (rest)) : XJ K nL (Wc K T c0 s0 g d) pc L (.ref x0 :: rest) := by
  exact c_callV (rest := rest) (v := none) [] 0 rfl C B hta (by decide) (by decide) rfl dK hd (Nat.le_of_ble_eq_true rfl) hcs (lw_V q952 q953 q954 q125 q955) (by decide +kernel) (met_X3_lays hf) rfl hW dd kk2
theorem k_X4_begin_X1 {K : KT} {T : CT} {c0 s0 c1 s1 dk : Nat} {cc : ByteArray} {nL pc : Nat} {L : List (Nat × Value)} {rest : List Value} {g : CG} {d : CD} {v : CD} {n : Nat} {x0 : Nat} {x1 : Nat} (C : Kok K cc nL RX1) (B : CB K T) (hta : ht g x0 = 4) (dK : kR K = rmC dk c1 s1) (hd : 3 + 1 ≤ dk) (hcs : c0 + 0 ≤ c1 ∧ s0 + 0 ≤ s1) (hf : f_X4_begin n g x0 x1 d = some v) (hW : (rest.map fun v => v.category).sum ≤ 8) (dd : decode cc pc = .ok (.invokevirtual 110, 3)) (kk2 : XJ K nL (Wc K T c0 s0 g v) (pc + 3) L (rest)) : XJ K nL (Wc K T c0 s0 g d) pc L (.ref x1 :: .ref x0 :: rest) :=
  c_callV (rest := rest) (v := none) [.ref x1] 1 rfl C B hta (by decide) (by decide) rfl dK hd (Nat.le_of_ble_eq_true rfl) hcs (lw_V q560 q561 q562 q126 q563) (by decide +kernel) (met_X4_begin hf) rfl hW dd kk2
def f_X1_city (n : Nat) (x0 : Nat) (g : CG) (d : CD) : Option (SR Int32) := if ht g x0 = 1 then (f_X1_taken g x0 d).bind fun r2 => ev (wi r2 x0 11 (0 : Int32)) fun da3 => tick 1 23 (ev (hz g) fun q4 => ev (nd da3 q4) fun da6 => ev (na g 3 0) fun ga5 => (f_X3_init q4 ga5 da6).bind fun r9 => tick r9.2.2.2.1 r9.2.2.2.2 (if ht r9.2.1 x0 = 1 then (hr r9.2.1 x0 9).bind fun p13 => if ht r9.2.1 p13 = 6 then (f_X7_read n p13 q4 r9.2.1 r9.2.2.1).bind fun r15 => tick r15.2.2.2.1 r15.2.2.2.2 (xhand r15 (fun r18 => if ht r15.2.1 q4 = 3 then (f_X3_lays n q4 r15.2.1 r15.2.2.1).bind fun r24 => tick r24.2.2.2.1 r24.2.2.2.2 (if ht r24.2.1 x0 = 1 then ev (wr r24.2.1 x0 6 (some q4)) fun ga28 => if ht ga28 x0 = 1 then (hr ga28 x0 7).bind fun p30 => if ht ga28 p30 = 4 then (f_X4_begin n ga28 p30 q4 r24.2.2.1).bind fun r32 => ev (wi r32 x0 13 (0 : Int32)) fun da33 => ev (wr ga28 x0 39 none) fun ga34 => some (r18, ga34, da33, 0, 0) else none else none else none) else none) (fun q19 => if ht r15.2.1 q19 = 2 then if ht r15.2.1 x0 = 1 then ev (wi r15.2.2.1 x0 11 (hi r15.2.2.1 q19 6)) fun da22 => some ((-1 : Int32) - (hi da22 q19 7), r15.2.1, da22, 0, 0) else none else none)) else none else none)) else none
set_option maxHeartbeats 4000000 in
theorem w_X1_city_E {K : KT} {T : CT} {r : Int32} {g9 : CG} {d9 : CD} {c1 s1 : Nat} (n : Nat) (hX : (kC K).exceptionTable.toList = tableOf [(17, 54, 55, 13)]) (C : Kok K cX1_city 3 RX1) (B : CB K T) (hrt : (kMe K).sig.returnType = (some .int)) (dK : kR K = rmC 14 c1 s1) (hQ : KQc K T (some (.int r)) c1 s1 g9 d9) (x0 : Nat) (g : CG) (d : CD) (c0 s0 k m9 : Nat) (hc : c1 = c0 + k) (hs : s1 = s0 + m9) (hf : f_X1_city n x0 g d = some (r, g9, d9, k, m9)) : XJ K 3 (Wc K T c0 s0 g d) 0 [(0, .ref x0)] [] := by
  unfold f_X1_city at hf
  refine x_aload_n C dX1_city_0 0 rfl ?_
  obtain ⟨t1, hf⟩ := pf_ch hf
  obtain ⟨r2, er2, hf⟩ := pf_b hf
  refine k_X1_taken_X1 C B t1 dK (Nat.le_of_ble_eq_true rfl) (by omega) er2 (Nat.le_of_ble_eq_true rfl) dX1_city_1 ?_
  refine x_aload_n C dX1_city_4 0 rfl ?_
  refine x_iconst (0 : Int32) C dX1_city_5 (by decide) ?_
  refine cp1_11 C B t1 (flo C q630) fsm dX1_city_6 ?_
  obtain ⟨da3, eda3, hf⟩ := pf_e hf
  refine c_ren eda3 ?_
  obtain ⟨j7, i8, ej7, ei8, hf⟩ := pf_tk hf
  refine c_new3 C B q259 dK (by omega) dX1_city_9 ?_
  obtain ⟨q4, eq4, hf⟩ := pf_e hf
  refine x_toprr eq4 ?_
  obtain ⟨da6, eda6, hf⟩ := pf_e hf
  obtain ⟨ga5, ega5, hf⟩ := pf_e hf
  rw [← eq4, ← eda6, ← ega5]
  refine x_dup C dX1_city_12 rfl ?_
  obtain ⟨r9, er9, hf⟩ := pf_b hf
  obtain ⟨j10, i11, ej10, ei11, hf⟩ := pf_tk hf
  refine k_X3_init_X1 C B dK (Nat.le_of_ble_eq_true rfl) (by omega) er9 (Nat.le_of_ble_eq_true rfl) dX1_city_13 ?_
  refine x_astore_n (L' := [(0, .ref x0), (1, .ref q4)]) C dX1_city_16 (Nat.le_of_ble_eq_true rfl) [1, 0] rfl ?_
  refine x_aload_n C dX1_city_17 0 rfl ?_
  obtain ⟨t12, hf⟩ := pf_ch hf
  obtain ⟨p13, ep13, hf⟩ := pf_b hf
  refine cg1_9 C B t12 (flo C q628) fsm ep13 dX1_city_18 ?_
  refine x_aload_n C dX1_city_21 1 rfl ?_
  obtain ⟨t14, hf⟩ := pf_ch hf
  obtain ⟨r15, er15, hf⟩ := pf_b hf
  obtain ⟨j16, i17, ej16, ei17, hf⟩ := pf_tk hf
  refine k_X7_read_X1 C B t14 dK (Nat.le_of_ble_eq_true rfl) (by omega) er15 (Nat.le_of_ble_eq_true rfl) dX1_city_22 (fun q19 eq19 => ?_) (fun r18 er18 => ?_)
  · have hf := pf_hr eq19 hf
    refine c_catch C B hX (by decide) (by decide) q164 ?_
    refine x_sub [0] (L' := [(0, .ref x0)]) rfl ?_
    refine x_astore_n (L' := [(0, .ref x0), (2, .ref q19)]) C dX1_city_55 (Nat.le_of_ble_eq_true rfl) [1, 0] rfl ?_
    refine x_aload_n C dX1_city_56 0 rfl ?_
    refine x_aload_n C dX1_city_57 1 rfl ?_
    obtain ⟨t20, hf⟩ := pf_ch hf
    refine cg2_6 C B t20 (flo C q211) fsm dX1_city_58 ?_
    obtain ⟨t21, hf⟩ := pf_ch hf
    refine cp1_11 C B t21 (flo C q630) fsm dX1_city_61 ?_
    obtain ⟨da22, eda22, hf⟩ := pf_e hf
    refine c_ren eda22 ?_
    refine x_iconst (-1 : Int32) C dX1_city_64 (by decide) ?_
    refine x_aload_n C dX1_city_65 1 rfl ?_
    refine cg2_7 C B t20 (flo C q213) fsm dX1_city_66 ?_
    refine x_isub C dX1_city_69 ?_
    obtain ⟨rfl, rfl, rfl, rfl, rfl⟩ := sr_inj hf
    refine c_cs (c0 := c1) (s0 := s1) (by omega) (by omega) ?_
    exact c_iret C hrt hQ dX1_city_70
  · have hf := pf_hl er18 hf
    refine x_istore_n (L' := [(0, .ref x0), (1, .ref q4), (2, .int r18)]) C dX1_city_25 (Nat.le_of_ble_eq_true rfl) [1, 2, 0] rfl ?_
    refine x_aload_n C dX1_city_26 1 rfl ?_
    obtain ⟨t23, hf⟩ := pf_ch hf
    obtain ⟨r24, er24, hf⟩ := pf_b hf
    obtain ⟨j25, i26, ej25, ei26, hf⟩ := pf_tk hf
    refine k_X3_lays_X1 C B t23 dK (Nat.le_of_ble_eq_true rfl) (by omega) er24 (Nat.le_of_ble_eq_true rfl) dX1_city_27 ?_
    refine x_aload_n C dX1_city_30 0 rfl ?_
    refine x_aload_n C dX1_city_31 1 rfl ?_
    obtain ⟨t27, hf⟩ := pf_ch hf
    refine cpr1_6 C B t27 (flo C q621) fsm dX1_city_32 ?_
    obtain ⟨ga28, ega28, hf⟩ := pf_e hf
    refine c_renG ega28 ?_
    refine x_aload_n C dX1_city_35 0 rfl ?_
    obtain ⟨t29, hf⟩ := pf_ch hf
    obtain ⟨p30, ep30, hf⟩ := pf_b hf
    refine cg1_7 C B t29 (flo C q624) fsm ep30 dX1_city_36 ?_
    refine x_aload_n C dX1_city_39 1 rfl ?_
    obtain ⟨t31, hf⟩ := pf_ch hf
    obtain ⟨r32, er32, hf⟩ := pf_b hf
    refine k_X4_begin_X1 C B t31 dK (Nat.le_of_ble_eq_true rfl) (by omega) er32 (Nat.le_of_ble_eq_true rfl) dX1_city_40 ?_
    refine x_aload_n C dX1_city_43 0 rfl ?_
    refine x_iconst (0 : Int32) C dX1_city_44 (by decide) ?_
    refine cp1_13 C B t29 (flo C q632) fsm dX1_city_45 ?_
    obtain ⟨da33, eda33, hf⟩ := pf_e hf
    refine c_ren eda33 ?_
    refine x_aload_n C dX1_city_48 0 rfl ?_
    refine x_null C dX1_city_49 ?_
    refine cprn1_39 C B t29 (flo C q658) fsm dX1_city_50 ?_
    obtain ⟨ga34, ega34, hf⟩ := pf_e hf
    refine c_renG ega34 ?_
    refine x_iload_n C dX1_city_53 2 rfl ?_
    obtain ⟨rfl, rfl, rfl, rfl, rfl⟩ := sr_inj hf
    refine c_cs (c0 := c1) (s0 := s1) (by omega) (by omega) ?_
    exact c_iret C hrt hQ dX1_city_54
theorem met_X1_city {T : CT} {v : (SR Int32)} {n : Nat} {g : CG} {d : CD} {x0 : Nat} {l : Launch} (hf : f_X1_city n x0 g d = some v) : vx_Met l yX1_city (wsW_ yX1_city cX1_city 3 (some .int) [(17, 54, 55, 13)]) (rmC 14 v.2.2.2.1 v.2.2.2.2) (va_Pc [.ref x0] (CU T g d)) (Qc T (some (.int v.1)) v.2.1 v.2.2.1) (fun _ _ _ => False) v.2.2.2.1 v.2.2.2.2 (cA T) :=
  ch_met [.ref x0] RX1 (by decide) rfl (Nat.le_of_ble_eq_true rfl) (fun K hl hR hrt C B hX hQ => w_X1_city_E n hX C B hrt hR hQ _ _ _ 0 0 _ _ (Nat.zero_add _).symm (Nat.zero_add _).symm hf)
theorem k_X9_read_X1 {K : KT} {T : CT} {c0 s0 c1 s1 dk : Nat} {cc : ByteArray} {nL pc : Nat} {L : List (Nat × Value)} {rest : List Value} {g : CG} {d : CD} {v : (XR Nat)} {ts : Nat → Nat} {n : Nat} {x0 : Nat} (hts : tS T = ts) (C : Kok K cc nL RX1) (B : CB K T) (hta : ht g x0 = 8) (dK : kR K = rmC dk c1 s1) (hd : 60 + 1 ≤ dk) (hcs : c0 + v.2.2.2.1 ≤ c1 ∧ s0 + v.2.2.2.2 ≤ s1) (hf : f_X9_read ts n x0 g d = some v) (hW : (rest.map fun v => v.category).sum ≤ 8) (dd : decode cc pc = .ok (.invokevirtual 539, 3)) (kx : ∀ q, v.1 = .inr q → XT K nL (Wc K T (c0 + v.2.2.2.1) (s0 + v.2.2.2.2) v.2.1 v.2.2.1) pc L rest q) (kk2 : ∀ r, v.1 = .inl r → XJ K nL (Wc K T (c0 + v.2.2.2.1) (s0 + v.2.2.2.2) v.2.1 v.2.2.1) (pc + 3) L ((.ref r) :: rest)) : XJ K nL (Wc K T c0 s0 g d) pc L (.ref x0 :: rest) := by
  subst hts
  have kk3 : ∀ w, xoR v.1 = .inl w → XJ K nL (Wc K T (c0 + v.2.2.2.1) (s0 + v.2.2.2.2) v.2.1 v.2.2.1) (pc + 3) L (w.toList ++ rest) := fun w h => by
    obtain ⟨r, e1, rfl⟩ := xoR_l h
    exact kk2 r e1
  have kx3 : ∀ q, xoR v.1 = .inr q → XT K nL (Wc K T (c0 + v.2.2.2.1) (s0 + v.2.2.2.2) v.2.1 v.2.2.1) pc L rest q := fun q h => kx q (xoR_r h)
  exact cx_callV (rest := rest) (o := xoR v.1) [] 0 rfl C B hta (by decide) (by decide) rfl dK hd (Nat.le_of_ble_eq_true rfl) hcs (lw_V q1519 q1520 q1521 q132 q1522) (by decide +kernel) (met_X9_read hf) rfl hW dd kx3 kk3
def f_X1_sentence (ts : Nat → Nat) (n : Nat) (x0 : Nat) (g : CG) (d : CD) : Option (SR Int32) := if ht g x0 = 1 then (f_X1_taken g x0 d).bind fun r2 => ev (wi r2 x0 11 (0 : Int32)) fun da3 => (hr g x0 38).bind fun p4 => if ht g p4 = 8 then (f_X9_read ts n p4 g da3).bind fun r6 => tick r6.2.2.2.1 r6.2.2.2.2 (xhand r6 (fun r9 => if ht r6.2.1 x0 = 1 then ev (wr r6.2.1 x0 39 (some r9)) fun ga15 => if ht ga15 x0 = 1 then (hr ga15 x0 38).bind fun p17 => if ht ga15 p17 = 8 then some (hi r6.2.2.1 p17 10, ga15, r6.2.2.1, 0, 0) else none else none else none) (fun q10 => if ht r6.2.1 q10 = 2 then if ht r6.2.1 x0 = 1 then ev (wi r6.2.2.1 x0 11 (hi r6.2.2.1 q10 6)) fun da13 => some ((-1 : Int32) - (hi da13 q10 7), r6.2.1, da13, 0, 0) else none else none)) else none else none
set_option maxHeartbeats 4000000 in
theorem w_X1_sentence_E {K : KT} {T : CT} {r : Int32} {g9 : CG} {d9 : CD} {c1 s1 : Nat} (ts : Nat → Nat) (n : Nat) (hts : tS T = ts) (hX : (kC K).exceptionTable.toList = tableOf [(9, 27, 28, 13)]) (C : Kok K cX1_sentence 2 RX1) (B : CB K T) (hrt : (kMe K).sig.returnType = (some .int)) (dK : kR K = rmC 61 c1 s1) (hQ : KQc K T (some (.int r)) c1 s1 g9 d9) (x0 : Nat) (g : CG) (d : CD) (c0 s0 k m9 : Nat) (hc : c1 = c0 + k) (hs : s1 = s0 + m9) (hf : f_X1_sentence ts n x0 g d = some (r, g9, d9, k, m9)) : XJ K 2 (Wc K T c0 s0 g d) 0 [(0, .ref x0)] [] := by
  unfold f_X1_sentence at hf
  refine x_aload_n C dX1_sentence_0 0 rfl ?_
  obtain ⟨t1, hf⟩ := pf_ch hf
  obtain ⟨r2, er2, hf⟩ := pf_b hf
  refine k_X1_taken_X1 C B t1 dK (Nat.le_of_ble_eq_true rfl) (by omega) er2 (Nat.le_of_ble_eq_true rfl) dX1_sentence_1 ?_
  refine x_aload_n C dX1_sentence_4 0 rfl ?_
  refine x_iconst (0 : Int32) C dX1_sentence_5 (by decide) ?_
  refine cp1_11 C B t1 (flo C q630) fsm dX1_sentence_6 ?_
  obtain ⟨da3, eda3, hf⟩ := pf_e hf
  refine c_ren eda3 ?_
  refine x_aload_n C dX1_sentence_9 0 rfl ?_
  refine x_aload_n C dX1_sentence_10 0 rfl ?_
  obtain ⟨p4, ep4, hf⟩ := pf_b hf
  refine cg1_38 C B t1 (flo C q657) fsm ep4 dX1_sentence_11 ?_
  obtain ⟨t5, hf⟩ := pf_ch hf
  obtain ⟨r6, er6, hf⟩ := pf_b hf
  obtain ⟨j7, i8, ej7, ei8, hf⟩ := pf_tk hf
  refine k_X9_read_X1 hts C B t5 dK (Nat.le_of_ble_eq_true rfl) (by omega) er6 (Nat.le_of_ble_eq_true rfl) dX1_sentence_14 (fun q10 eq10 => ?_) (fun r9 er9 => ?_)
  · have hf := pf_hr eq10 hf
    refine c_catch C B hX (by decide) (by decide) q164 ?_
    refine x_sub [0] (L' := [(0, .ref x0)]) rfl ?_
    refine x_astore_n (L' := [(0, .ref x0), (1, .ref q10)]) C dX1_sentence_28 (Nat.le_of_ble_eq_true rfl) [1, 0] rfl ?_
    refine x_aload_n C dX1_sentence_29 0 rfl ?_
    refine x_aload_n C dX1_sentence_30 1 rfl ?_
    obtain ⟨t11, hf⟩ := pf_ch hf
    refine cg2_6 C B t11 (flo C q211) fsm dX1_sentence_31 ?_
    obtain ⟨t12, hf⟩ := pf_ch hf
    refine cp1_11 C B t12 (flo C q630) fsm dX1_sentence_34 ?_
    obtain ⟨da13, eda13, hf⟩ := pf_e hf
    refine c_ren eda13 ?_
    refine x_iconst (-1 : Int32) C dX1_sentence_37 (by decide) ?_
    refine x_aload_n C dX1_sentence_38 1 rfl ?_
    refine cg2_7 C B t11 (flo C q213) fsm dX1_sentence_39 ?_
    refine x_isub C dX1_sentence_42 ?_
    obtain ⟨rfl, rfl, rfl, rfl, rfl⟩ := sr_inj hf
    refine c_cs (c0 := c1) (s0 := s1) (by omega) (by omega) ?_
    exact c_iret C hrt hQ dX1_sentence_43
  · have hf := pf_hl er9 hf
    obtain ⟨t14, hf⟩ := pf_ch hf
    refine cpr1_39 C B t14 (flo C q658) fsm dX1_sentence_17 ?_
    obtain ⟨ga15, ega15, hf⟩ := pf_e hf
    refine c_renG ega15 ?_
    refine x_aload_n C dX1_sentence_20 0 rfl ?_
    obtain ⟨t16, hf⟩ := pf_ch hf
    obtain ⟨p17, ep17, hf⟩ := pf_b hf
    refine cg1_38 C B t16 (flo C q657) fsm ep17 dX1_sentence_21 ?_
    obtain ⟨t18, hf⟩ := pf_ch hf
    refine cg8_10 C B t18 (fln B q588) fsm dX1_sentence_24 ?_
    obtain ⟨rfl, rfl, rfl, rfl, rfl⟩ := sr_inj hf
    refine c_cs (c0 := c1) (s0 := s1) (by omega) (by omega) ?_
    exact c_iret C hrt hQ dX1_sentence_27
theorem met_X1_sentence {T : CT} {v : (SR Int32)} {n : Nat} {g : CG} {d : CD} {x0 : Nat} {l : Launch} (hf : f_X1_sentence (tS T) n x0 g d = some v) : vx_Met l yX1_sentence (wsW_ yX1_sentence cX1_sentence 2 (some .int) [(9, 27, 28, 13)]) (rmC 61 v.2.2.2.1 v.2.2.2.2) (va_Pc [.ref x0] (CU T g d)) (Qc T (some (.int v.1)) v.2.1 v.2.2.1) (fun _ _ _ => False) v.2.2.2.1 v.2.2.2.2 (cA T) :=
  ch_met [.ref x0] RX1 (by decide) rfl (Nat.le_of_ble_eq_true rfl) (fun K hl hR hrt C B hX hQ => w_X1_sentence_E (tS T) n rfl hX C B hrt hR hQ _ _ _ 0 0 _ _ (Nat.zero_add _).symm (Nat.zero_add _).symm hf)
