set_option maxRecDepth 100000
theorem k_X6_isName_X7 {K : KT} {T : CT} {c0 s0 c1 s1 dk : Nat} {cc : ByteArray} {nL pc : Nat} {L : List (Nat × Value)} {rest : List Value} {g : CG} {d : CD} {v : Int32} {n : Nat} {x0 : Nat} (C : Kok K cc nL RX7) (B : CB K T) (hta : ht g x0 = 6) (dK : kR K = rmC dk c1 s1) (hd : 8 + 1 ≤ dk) (hcs : c0 + 0 ≤ c1 ∧ s0 + 0 ≤ s1) (hf : f_X6_isName n g d x0 = some v) (hW : (rest.map fun v => v.category).sum ≤ 8) (dd : decode cc pc = .ok (.invokevirtual 74, 3)) (kk2 : XJ K nL (Wc K T c0 s0 g d) (pc + 3) L ((.int v) :: rest)) : XJ K nL (Wc K T c0 s0 g d) pc L (.ref x0 :: rest) := by
  have e := hta
  · exact c_callU (rest := rest) (v := (some (.int v))) (x := ⟨"StatueRent$CityReader", "isName", "()Z"⟩) (owner := "StatueRent$Reader") [] 0 rfl C B e (by decide) (by decide) rfl dK hd (Nat.le_of_ble_eq_true rfl) hcs q894 q889 q890 (C.2.2.2.2.1 _ q892) q893 q128 rfl (by decide +kernel) (met_X6_isName hf) rfl hW dd kk2
theorem k_X6_must_X7 {K : KT} {T : CT} {c0 s0 c1 s1 dk : Nat} {cc : ByteArray} {nL pc : Nat} {L : List (Nat × Value)} {rest : List Value} {g : CG} {d : CD} {v : (XR Unit)} {x0 : Nat} {x1 : Int32} {x2 : Int32} (C : Kok K cc nL RX7) (B : CB K T) (hta : ht g x0 = 6) (dK : kR K = rmC dk c1 s1) (hd : 3 + 1 ≤ dk) (hcs : c0 + v.2.2.2.1 ≤ c1 ∧ s0 + v.2.2.2.2 ≤ s1) (hf : f_X6_must x0 x1 x2 g d = some v) (hW : (rest.map fun v => v.category).sum ≤ 8) (dd : decode cc pc = .ok (.invokevirtual 39, 3)) (kx : ∀ q, v.1 = .inr q → XT K nL (Wc K T (c0 + v.2.2.2.1) (s0 + v.2.2.2.2) v.2.1 v.2.2.1) pc L rest q) (kk2 : ∀ r, v.1 = .inl r → XJ K nL (Wc K T (c0 + v.2.2.2.1) (s0 + v.2.2.2.2) v.2.1 v.2.2.1) (pc + 3) L (rest)) : XJ K nL (Wc K T c0 s0 g d) pc L (.int x2 :: .int x1 :: .ref x0 :: rest) := by
  have kk3 : ∀ w, xoV v.1 = .inl w → XJ K nL (Wc K T (c0 + v.2.2.2.1) (s0 + v.2.2.2.2) v.2.1 v.2.2.1) (pc + 3) L (w.toList ++ rest) := fun w h => by
    obtain ⟨r, e1, rfl⟩ := xoV_l h
    exact kk2 r e1
  have kx3 : ∀ q, xoV v.1 = .inr q → XT K nL (Wc K T (c0 + v.2.2.2.1) (s0 + v.2.2.2.2) v.2.1 v.2.2.1) pc L rest q := fun q h => kx q (xoV_r h)
  have e := hta
  · exact cx_callU (rest := rest) (o := xoV v.1) (x := ⟨"StatueRent$CityReader", "must", "(ZI)V"⟩) (owner := "StatueRent$Reader") [.int x1, .int x2] 2 rfl C B e (by decide) (by decide) rfl dK hd (Nat.le_of_ble_eq_true rfl) hcs q865 q860 q861 (C.2.2.2.2.1 _ q863) q864 q128 rfl (by decide +kernel) (met_X6_must hf) rfl hW dd kx3 kk3
theorem k_X6_of_X7 {K : KT} {T : CT} {c0 s0 c1 s1 dk : Nat} {cc : ByteArray} {nL pc : Nat} {L : List (Nat × Value)} {rest : List Value} {g : CG} {d : CD} {v : Int32} {n : Nat} {x0 : Nat} {x1 : Nat} {x2 : Int32} (C : Kok K cc nL RX7) (B : CB K T) (hta : ht g x0 = 6) (dK : kR K = rmC dk c1 s1) (hd : 2 + 1 ≤ dk) (hcs : c0 + 0 ≤ c1 ∧ s0 + 0 ≤ s1) (hf : f_X6_of n g d x0 x1 x2 = some v) (hW : (rest.map fun v => v.category).sum ≤ 8) (dd : decode cc pc = .ok (.invokevirtual 82, 3)) (kk2 : XJ K nL (Wc K T c0 s0 g d) (pc + 3) L ((.int v) :: rest)) : XJ K nL (Wc K T c0 s0 g d) pc L (.int x2 :: .ref x1 :: .ref x0 :: rest) := by
  have e := hta
  · exact c_callU (rest := rest) (v := (some (.int v))) (x := ⟨"StatueRent$CityReader", "of", "([JI)I"⟩) (owner := "StatueRent$Reader") [.ref x1, .int x2] 2 rfl C B e (by decide) (by decide) rfl dK hd (Nat.le_of_ble_eq_true rfl) hcs q901 q896 q897 (C.2.2.2.2.1 _ q899) q900 q128 rfl (by decide +kernel) (met_X6_of hf) rfl hW dd kk2
theorem k_X6_next_X7 {K : KT} {T : CT} {c0 s0 c1 s1 dk : Nat} {cc : ByteArray} {nL pc : Nat} {L : List (Nat × Value)} {rest : List Value} {g : CG} {d : CD} {v : CD} {n : Nat} {x0 : Nat} (C : Kok K cc nL RX7) (B : CB K T) (hta : ht g x0 = 6) (dK : kR K = rmC dk c1 s1) (hd : 5 + 1 ≤ dk) (hcs : c0 + 0 ≤ c1 ∧ s0 + 0 ≤ s1) (hf : f_X6_next n g x0 d = some v) (hW : (rest.map fun v => v.category).sum ≤ 8) (dd : decode cc pc = .ok (.invokevirtual 47, 3)) (kk2 : XJ K nL (Wc K T c0 s0 g v) (pc + 3) L (rest)) : XJ K nL (Wc K T c0 s0 g d) pc L (.ref x0 :: rest) := by
  have e := hta
  · exact c_callU (rest := rest) (v := none) (x := ⟨"StatueRent$CityReader", "next", "()V"⟩) (owner := "StatueRent$Reader") [] 0 rfl C B e (by decide) (by decide) rfl dK hd (Nat.le_of_ble_eq_true rfl) hcs q779 q877 q878 (C.2.2.2.2.1 _ q880) q774 q128 rfl (by decide +kernel) (met_X6_next hf) rfl hW dd kk2
def f_X7_fresh (n : Nat) (x0 : Nat) (g : CG) (d : CD) : Option (XR Int64) := if ht g x0 = 6 then (f_X6_isName n g d x0).bind fun r2 => (f_X6_must x0 r2 (1 : Int32) g d).bind fun r3 => tick r3.2.2.2.1 r3.2.2.2.2 (xcase r3 fun r6 => if ht r3.2.1 x0 = 6 then (hr r3.2.1 x0 8).bind fun p8 => if ht r3.2.1 p8 = 3 then (hr r3.2.1 p8 0).bind fun p10 => (f_X6_of n r3.2.1 r3.2.2.1 x0 p10 (hi r3.2.2.1 p8 17)).bind fun r11 => if r11 = (-1 : Int32) then ((hr r3.2.1 p8 1).bind fun p20 => (f_X6_of n r3.2.1 r3.2.2.1 x0 p20 (hi r3.2.2.1 p8 19)).bind fun r21 => if r21 = (-1 : Int32) then ((hr r3.2.1 p8 2).bind fun p30 => (f_X6_of n r3.2.1 r3.2.2.1 x0 p30 (hi r3.2.2.1 p8 20)).bind fun r31 => if r31 = (-1 : Int32) then ((hr r3.2.1 p8 3).bind fun p40 => (f_X6_of n r3.2.1 r3.2.2.1 x0 p40 (hi r3.2.2.1 p8 21)).bind fun r41 => if r41 = (-1 : Int32) then ((f_X6_must x0 (1 : Int32) (3 : Int32) r3.2.1 r3.2.2.1).bind fun r50 => tick r50.2.2.2.1 r50.2.2.2.2 (xcase r50 fun r53 => if ht r50.2.1 x0 = 6 then ev (hl r50.2.2.1 x0 6) fun v55 => (f_X6_next n r50.2.1 x0 r50.2.2.1).bind fun r56 => some (.inl v55, r50.2.1, r56, 0, 0) else none)) else ((f_X6_must x0 (0 : Int32) (3 : Int32) r3.2.1 r3.2.2.1).bind fun r43 => tick r43.2.2.2.1 r43.2.2.2.2 (xcase r43 fun r46 => if ht r43.2.1 x0 = 6 then ev (hl r43.2.2.1 x0 6) fun v48 => (f_X6_next n r43.2.1 x0 r43.2.2.1).bind fun r49 => some (.inl v48, r43.2.1, r49, 0, 0) else none))) else ((f_X6_must x0 (0 : Int32) (3 : Int32) r3.2.1 r3.2.2.1).bind fun r33 => tick r33.2.2.2.1 r33.2.2.2.2 (xcase r33 fun r36 => if ht r33.2.1 x0 = 6 then ev (hl r33.2.2.1 x0 6) fun v38 => (f_X6_next n r33.2.1 x0 r33.2.2.1).bind fun r39 => some (.inl v38, r33.2.1, r39, 0, 0) else none))) else ((f_X6_must x0 (0 : Int32) (3 : Int32) r3.2.1 r3.2.2.1).bind fun r23 => tick r23.2.2.2.1 r23.2.2.2.2 (xcase r23 fun r26 => if ht r23.2.1 x0 = 6 then ev (hl r23.2.2.1 x0 6) fun v28 => (f_X6_next n r23.2.1 x0 r23.2.2.1).bind fun r29 => some (.inl v28, r23.2.1, r29, 0, 0) else none))) else ((f_X6_must x0 (0 : Int32) (3 : Int32) r3.2.1 r3.2.2.1).bind fun r13 => tick r13.2.2.2.1 r13.2.2.2.2 (xcase r13 fun r16 => if ht r13.2.1 x0 = 6 then ev (hl r13.2.2.1 x0 6) fun v18 => (f_X6_next n r13.2.1 x0 r13.2.2.1).bind fun r19 => some (.inl v18, r13.2.1, r19, 0, 0) else none)) else none else none) else none
set_option maxHeartbeats 4000000 in
theorem w_X7_fresh_E {K : KT} {T : CT} {r : (Int64 ⊕ Nat)} {g9 : CG} {d9 : CD} {c1 s1 : Nat} (n : Nat) (C : Kok K cX7_fresh 3 RX7) (B : CB K T) (hrt : (kMe K).sig.returnType = (some .long)) (dK : kR K = rmC 9 c1 s1) (hQ : KQx K T (xoL r) c1 s1 g9 d9) (x0 : Nat) (g : CG) (d : CD) (c0 s0 k m9 : Nat) (hc : c1 = c0 + k) (hs : s1 = s0 + m9) (hf : f_X7_fresh n x0 g d = some (r, g9, d9, k, m9)) : XJ K 3 (Wc K T c0 s0 g d) 0 [(0, .ref x0)] [] := by
  unfold f_X7_fresh at hf
  refine x_aload_n C dX7_fresh_0 0 rfl ?_
  refine x_aload_n C dX7_fresh_1 0 rfl ?_
  obtain ⟨t1, hf⟩ := pf_ch hf
  obtain ⟨r2, er2, hf⟩ := pf_b hf
  refine k_X6_isName_X7 C B t1 dK (Nat.le_of_ble_eq_true rfl) (by omega) er2 (Nat.le_of_ble_eq_true rfl) dX7_fresh_2 ?_
  refine x_iconst (1 : Int32) C dX7_fresh_5 (by decide) ?_
  obtain ⟨r3, er3, hf⟩ := pf_b hf
  obtain ⟨j4, i5, ej4, ei5, hf⟩ := pf_tk hf
  refine k_X6_must_X7 C B t1 dK (Nat.le_of_ble_eq_true rfl) (by omega) er3 (Nat.le_of_ble_eq_true rfl) dX7_fresh_6 (fun q eq => ?_) (fun r6 er6 => ?_)
  · obtain ⟨rfl, rfl, rfl, rfl, rfl⟩ := pf_xr eq hf
    exact c_csT (by omega) (by omega) (c_out C hQ)
  have hf := pf_xl er6 hf
  refine x_aload_n C dX7_fresh_9 0 rfl ?_
  refine x_aload_n C dX7_fresh_10 0 rfl ?_
  refine x_aload_n C dX7_fresh_11 0 rfl ?_
  obtain ⟨t7, hf⟩ := pf_ch hf
  obtain ⟨p8, ep8, hf⟩ := pf_b hf
  refine cg6_8 C B t7 (flo C q488) fsm ep8 dX7_fresh_12 ?_
  obtain ⟨t9, hf⟩ := pf_ch hf
  obtain ⟨p10, ep10, hf⟩ := pf_b hf
  refine cg3_0 C B t9 (fln B q269) fsm ep10 dX7_fresh_15 ?_
  refine x_aload_n C dX7_fresh_18 0 rfl ?_
  refine cg6_8 C B t7 (flo C q488) fsm ep8 dX7_fresh_19 ?_
  refine cg3_17 C B t9 (fln B q323) fsm dX7_fresh_22 ?_
  obtain ⟨r11, er11, hf⟩ := pf_b hf
  refine k_X6_of_X7 C B t7 dK (Nat.le_of_ble_eq_true rfl) (by omega) er11 (Nat.le_of_ble_eq_true rfl) dX7_fresh_25 ?_
  refine x_iconst (-1 : Int32) C dX7_fresh_28 (by decide) ?_
  refine x_icmp_ne (tgt := 102) C dX7_fresh_29 (by decide) (fun w12 => ?_) (fun w12 => ?_)
  · have hf := pf_f w12 hf
    refine x_iconst (0 : Int32) C dX7_fresh_102 (by decide) ?_
    refine x_iconst (3 : Int32) C dX7_fresh_103 (by decide) ?_
    obtain ⟨r13, er13, hf⟩ := pf_b hf
    obtain ⟨j14, i15, ej14, ei15, hf⟩ := pf_tk hf
    refine k_X6_must_X7 C B t7 dK (Nat.le_of_ble_eq_true rfl) (by omega) er13 (Nat.le_of_ble_eq_true rfl) dX7_fresh_104 (fun q eq => ?_) (fun r16 er16 => ?_)
    · obtain ⟨rfl, rfl, rfl, rfl, rfl⟩ := pf_xr eq hf
      exact c_csT (by omega) (by omega) (c_out C hQ)
    have hf := pf_xl er16 hf
    refine x_aload_n C dX7_fresh_107 0 rfl ?_
    obtain ⟨t17, hf⟩ := pf_ch hf
    refine cg6_6 C B t17 (flo C q505) (fsq C q506) dX7_fresh_108 ?_
    obtain ⟨v18, ev18, hf⟩ := pf_e hf
    refine x_toplr ev18 ?_
    refine x_lstore_n (L' := [(0, .ref x0), (1, .long v18)]) C dX7_fresh_111 (Nat.le_of_ble_eq_true rfl) [1, 0] rfl ?_
    refine x_aload_n C dX7_fresh_112 0 rfl ?_
    obtain ⟨r19, er19, hf⟩ := pf_b hf
    refine k_X6_next_X7 C B t17 dK (Nat.le_of_ble_eq_true rfl) (by omega) er19 (Nat.le_of_ble_eq_true rfl) dX7_fresh_113 ?_
    refine x_lload_n C dX7_fresh_116 1 rfl ?_
    obtain ⟨rfl, rfl, rfl, rfl, rfl⟩ := sr_inj hf
    refine c_cs (c0 := c1) (s0 := s1) (by omega) (by omega) ?_
    exact x_ret hQ (c_lret (K := kW K _) C hrt rfl dX7_fresh_117)
  · have hf := pf_t w12 hf
    refine x_aload_n C dX7_fresh_32 0 rfl ?_
    refine x_aload_n C dX7_fresh_33 0 rfl ?_
    refine cg6_8 C B t7 (flo C q488) fsm ep8 dX7_fresh_34 ?_
    obtain ⟨p20, ep20, hf⟩ := pf_b hf
    refine cg3_1 C B t9 (fln B q274) fsm ep20 dX7_fresh_37 ?_
    refine x_aload_n C dX7_fresh_40 0 rfl ?_
    refine cg6_8 C B t7 (flo C q488) fsm ep8 dX7_fresh_41 ?_
    refine cg3_19 C B t9 (fln B q329) fsm dX7_fresh_44 ?_
    obtain ⟨r21, er21, hf⟩ := pf_b hf
    refine k_X6_of_X7 C B t7 dK (Nat.le_of_ble_eq_true rfl) (by omega) er21 (Nat.le_of_ble_eq_true rfl) dX7_fresh_47 ?_
    refine x_iconst (-1 : Int32) C dX7_fresh_50 (by decide) ?_
    refine x_icmp_ne (tgt := 102) C dX7_fresh_51 (by decide) (fun w22 => ?_) (fun w22 => ?_)
    · have hf := pf_f w22 hf
      refine x_iconst (0 : Int32) C dX7_fresh_102 (by decide) ?_
      refine x_iconst (3 : Int32) C dX7_fresh_103 (by decide) ?_
      obtain ⟨r23, er23, hf⟩ := pf_b hf
      obtain ⟨j24, i25, ej24, ei25, hf⟩ := pf_tk hf
      refine k_X6_must_X7 C B t7 dK (Nat.le_of_ble_eq_true rfl) (by omega) er23 (Nat.le_of_ble_eq_true rfl) dX7_fresh_104 (fun q eq => ?_) (fun r26 er26 => ?_)
      · obtain ⟨rfl, rfl, rfl, rfl, rfl⟩ := pf_xr eq hf
        exact c_csT (by omega) (by omega) (c_out C hQ)
      have hf := pf_xl er26 hf
      refine x_aload_n C dX7_fresh_107 0 rfl ?_
      obtain ⟨t27, hf⟩ := pf_ch hf
      refine cg6_6 C B t27 (flo C q505) (fsq C q506) dX7_fresh_108 ?_
      obtain ⟨v28, ev28, hf⟩ := pf_e hf
      refine x_toplr ev28 ?_
      refine x_lstore_n (L' := [(0, .ref x0), (1, .long v28)]) C dX7_fresh_111 (Nat.le_of_ble_eq_true rfl) [1, 0] rfl ?_
      refine x_aload_n C dX7_fresh_112 0 rfl ?_
      obtain ⟨r29, er29, hf⟩ := pf_b hf
      refine k_X6_next_X7 C B t27 dK (Nat.le_of_ble_eq_true rfl) (by omega) er29 (Nat.le_of_ble_eq_true rfl) dX7_fresh_113 ?_
      refine x_lload_n C dX7_fresh_116 1 rfl ?_
      obtain ⟨rfl, rfl, rfl, rfl, rfl⟩ := sr_inj hf
      refine c_cs (c0 := c1) (s0 := s1) (by omega) (by omega) ?_
      exact x_ret hQ (c_lret (K := kW K _) C hrt rfl dX7_fresh_117)
    · have hf := pf_t w22 hf
      refine x_aload_n C dX7_fresh_54 0 rfl ?_
      refine x_aload_n C dX7_fresh_55 0 rfl ?_
      refine cg6_8 C B t7 (flo C q488) fsm ep8 dX7_fresh_56 ?_
      obtain ⟨p30, ep30, hf⟩ := pf_b hf
      refine cg3_2 C B t9 (fln B q278) fsm ep30 dX7_fresh_59 ?_
      refine x_aload_n C dX7_fresh_62 0 rfl ?_
      refine cg6_8 C B t7 (flo C q488) fsm ep8 dX7_fresh_63 ?_
      refine cg3_20 C B t9 (fln B q336) fsm dX7_fresh_66 ?_
      obtain ⟨r31, er31, hf⟩ := pf_b hf
      refine k_X6_of_X7 C B t7 dK (Nat.le_of_ble_eq_true rfl) (by omega) er31 (Nat.le_of_ble_eq_true rfl) dX7_fresh_69 ?_
      refine x_iconst (-1 : Int32) C dX7_fresh_72 (by decide) ?_
      refine x_icmp_ne (tgt := 102) C dX7_fresh_73 (by decide) (fun w32 => ?_) (fun w32 => ?_)
      · have hf := pf_f w32 hf
        refine x_iconst (0 : Int32) C dX7_fresh_102 (by decide) ?_
        refine x_iconst (3 : Int32) C dX7_fresh_103 (by decide) ?_
        obtain ⟨r33, er33, hf⟩ := pf_b hf
        obtain ⟨j34, i35, ej34, ei35, hf⟩ := pf_tk hf
        refine k_X6_must_X7 C B t7 dK (Nat.le_of_ble_eq_true rfl) (by omega) er33 (Nat.le_of_ble_eq_true rfl) dX7_fresh_104 (fun q eq => ?_) (fun r36 er36 => ?_)
        · obtain ⟨rfl, rfl, rfl, rfl, rfl⟩ := pf_xr eq hf
          exact c_csT (by omega) (by omega) (c_out C hQ)
        have hf := pf_xl er36 hf
        refine x_aload_n C dX7_fresh_107 0 rfl ?_
        obtain ⟨t37, hf⟩ := pf_ch hf
        refine cg6_6 C B t37 (flo C q505) (fsq C q506) dX7_fresh_108 ?_
        obtain ⟨v38, ev38, hf⟩ := pf_e hf
        refine x_toplr ev38 ?_
        refine x_lstore_n (L' := [(0, .ref x0), (1, .long v38)]) C dX7_fresh_111 (Nat.le_of_ble_eq_true rfl) [1, 0] rfl ?_
        refine x_aload_n C dX7_fresh_112 0 rfl ?_
        obtain ⟨r39, er39, hf⟩ := pf_b hf
        refine k_X6_next_X7 C B t37 dK (Nat.le_of_ble_eq_true rfl) (by omega) er39 (Nat.le_of_ble_eq_true rfl) dX7_fresh_113 ?_
        refine x_lload_n C dX7_fresh_116 1 rfl ?_
        obtain ⟨rfl, rfl, rfl, rfl, rfl⟩ := sr_inj hf
        refine c_cs (c0 := c1) (s0 := s1) (by omega) (by omega) ?_
        exact x_ret hQ (c_lret (K := kW K _) C hrt rfl dX7_fresh_117)
      · have hf := pf_t w32 hf
        refine x_aload_n C dX7_fresh_76 0 rfl ?_
        refine x_aload_n C dX7_fresh_77 0 rfl ?_
        refine cg6_8 C B t7 (flo C q488) fsm ep8 dX7_fresh_78 ?_
        obtain ⟨p40, ep40, hf⟩ := pf_b hf
        refine cg3_3 C B t9 (fln B q281) fsm ep40 dX7_fresh_81 ?_
        refine x_aload_n C dX7_fresh_84 0 rfl ?_
        refine cg6_8 C B t7 (flo C q488) fsm ep8 dX7_fresh_85 ?_
        refine cg3_21 C B t9 (fln B q339) fsm dX7_fresh_88 ?_
        obtain ⟨r41, er41, hf⟩ := pf_b hf
        refine k_X6_of_X7 C B t7 dK (Nat.le_of_ble_eq_true rfl) (by omega) er41 (Nat.le_of_ble_eq_true rfl) dX7_fresh_91 ?_
        refine x_iconst (-1 : Int32) C dX7_fresh_94 (by decide) ?_
        refine x_icmp_ne (tgt := 102) C dX7_fresh_95 (by decide) (fun w42 => ?_) (fun w42 => ?_)
        · have hf := pf_f w42 hf
          refine x_iconst (0 : Int32) C dX7_fresh_102 (by decide) ?_
          refine x_iconst (3 : Int32) C dX7_fresh_103 (by decide) ?_
          obtain ⟨r43, er43, hf⟩ := pf_b hf
          obtain ⟨j44, i45, ej44, ei45, hf⟩ := pf_tk hf
          refine k_X6_must_X7 C B t7 dK (Nat.le_of_ble_eq_true rfl) (by omega) er43 (Nat.le_of_ble_eq_true rfl) dX7_fresh_104 (fun q eq => ?_) (fun r46 er46 => ?_)
          · obtain ⟨rfl, rfl, rfl, rfl, rfl⟩ := pf_xr eq hf
            exact c_csT (by omega) (by omega) (c_out C hQ)
          have hf := pf_xl er46 hf
          refine x_aload_n C dX7_fresh_107 0 rfl ?_
          obtain ⟨t47, hf⟩ := pf_ch hf
          refine cg6_6 C B t47 (flo C q505) (fsq C q506) dX7_fresh_108 ?_
          obtain ⟨v48, ev48, hf⟩ := pf_e hf
          refine x_toplr ev48 ?_
          refine x_lstore_n (L' := [(0, .ref x0), (1, .long v48)]) C dX7_fresh_111 (Nat.le_of_ble_eq_true rfl) [1, 0] rfl ?_
          refine x_aload_n C dX7_fresh_112 0 rfl ?_
          obtain ⟨r49, er49, hf⟩ := pf_b hf
          refine k_X6_next_X7 C B t47 dK (Nat.le_of_ble_eq_true rfl) (by omega) er49 (Nat.le_of_ble_eq_true rfl) dX7_fresh_113 ?_
          refine x_lload_n C dX7_fresh_116 1 rfl ?_
          obtain ⟨rfl, rfl, rfl, rfl, rfl⟩ := sr_inj hf
          refine c_cs (c0 := c1) (s0 := s1) (by omega) (by omega) ?_
          exact x_ret hQ (c_lret (K := kW K _) C hrt rfl dX7_fresh_117)
        · have hf := pf_t w42 hf
          refine x_iconst (1 : Int32) C dX7_fresh_98 (by decide) ?_
          refine x_goto (tgt := 103) C dX7_fresh_99 (by decide) ?_
          refine x_iconst (3 : Int32) C dX7_fresh_103 (by decide) ?_
          obtain ⟨r50, er50, hf⟩ := pf_b hf
          obtain ⟨j51, i52, ej51, ei52, hf⟩ := pf_tk hf
          refine k_X6_must_X7 C B t7 dK (Nat.le_of_ble_eq_true rfl) (by omega) er50 (Nat.le_of_ble_eq_true rfl) dX7_fresh_104 (fun q eq => ?_) (fun r53 er53 => ?_)
          · obtain ⟨rfl, rfl, rfl, rfl, rfl⟩ := pf_xr eq hf
            exact c_csT (by omega) (by omega) (c_out C hQ)
          have hf := pf_xl er53 hf
          refine x_aload_n C dX7_fresh_107 0 rfl ?_
          obtain ⟨t54, hf⟩ := pf_ch hf
          refine cg6_6 C B t54 (flo C q505) (fsq C q506) dX7_fresh_108 ?_
          obtain ⟨v55, ev55, hf⟩ := pf_e hf
          refine x_toplr ev55 ?_
          refine x_lstore_n (L' := [(0, .ref x0), (1, .long v55)]) C dX7_fresh_111 (Nat.le_of_ble_eq_true rfl) [1, 0] rfl ?_
          refine x_aload_n C dX7_fresh_112 0 rfl ?_
          obtain ⟨r56, er56, hf⟩ := pf_b hf
          refine k_X6_next_X7 C B t54 dK (Nat.le_of_ble_eq_true rfl) (by omega) er56 (Nat.le_of_ble_eq_true rfl) dX7_fresh_113 ?_
          refine x_lload_n C dX7_fresh_116 1 rfl ?_
          obtain ⟨rfl, rfl, rfl, rfl, rfl⟩ := sr_inj hf
          refine c_cs (c0 := c1) (s0 := s1) (by omega) (by omega) ?_
          exact x_ret hQ (c_lret (K := kW K _) C hrt rfl dX7_fresh_117)
theorem met_X7_fresh {T : CT} {v : (XR Int64)} {n : Nat} {g : CG} {d : CD} {x0 : Nat} {l : Launch}  (hf : f_X7_fresh n x0 g d = some v) : vy_Met l yX7_fresh (ws_ yX7_fresh cX7_fresh 3 (some .long)) (rmC 9 v.2.2.2.1 v.2.2.2.2) (va_Pc [.ref x0] (CU T g d)) (Qx T (xoL v.1) v.2.1 v.2.2.1) (Xx T (xoL v.1) v.2.1 v.2.2.1) v.2.2.2.1 v.2.2.2.2 (cA T) :=
  cx_met [.ref x0] RX7 (by decide) rfl (Nat.le_of_ble_eq_true rfl) (fun K hl hR hrt C B hQ => w_X7_fresh_E n C B hrt hR hQ _ _ _ 0 0 _ _ (Nat.zero_add _).symm (Nat.zero_add _).symm hf)
theorem k_X6_number_X7 {K : KT} {T : CT} {c0 s0 c1 s1 dk : Nat} {cc : ByteArray} {nL pc : Nat} {L : List (Nat × Value)} {rest : List Value} {g : CG} {d : CD} {v : (XR Int32)} {n : Nat} {x0 : Nat} {x1 : Int32} {x2 : Int32} (C : Kok K cc nL RX7) (B : CB K T) (hta : ht g x0 = 6) (dK : kR K = rmC dk c1 s1) (hd : 6 + 1 ≤ dk) (hcs : c0 + v.2.2.2.1 ≤ c1 ∧ s0 + v.2.2.2.2 ≤ s1) (hf : f_X6_number n x0 x1 x2 g d = some v) (hW : (rest.map fun v => v.category).sum ≤ 8) (dd : decode cc pc = .ok (.invokevirtual 107, 3)) (kx : ∀ q, v.1 = .inr q → XT K nL (Wc K T (c0 + v.2.2.2.1) (s0 + v.2.2.2.2) v.2.1 v.2.2.1) pc L rest q) (kk2 : ∀ r, v.1 = .inl r → XJ K nL (Wc K T (c0 + v.2.2.2.1) (s0 + v.2.2.2.2) v.2.1 v.2.2.1) (pc + 3) L ((.int r) :: rest)) : XJ K nL (Wc K T c0 s0 g d) pc L (.int x2 :: .int x1 :: .ref x0 :: rest) := by
  have kk3 : ∀ w, xoI v.1 = .inl w → XJ K nL (Wc K T (c0 + v.2.2.2.1) (s0 + v.2.2.2.2) v.2.1 v.2.2.1) (pc + 3) L (w.toList ++ rest) := fun w h => by
    obtain ⟨r, e1, rfl⟩ := xoI_l h
    exact kk2 r e1
  have kx3 : ∀ q, xoI v.1 = .inr q → XT K nL (Wc K T (c0 + v.2.2.2.1) (s0 + v.2.2.2.2) v.2.1 v.2.2.1) pc L rest q := fun q h => kx q (xoI_r h)
  have e := hta
  · exact cx_callU (rest := rest) (o := xoI v.1) (x := ⟨"StatueRent$CityReader", "number", "(II)I"⟩) (owner := "StatueRent$Reader") [.int x1, .int x2] 2 rfl C B e (by decide) (by decide) rfl dK hd (Nat.le_of_ble_eq_true rfl) hcs q907 q902 q903 (C.2.2.2.2.1 _ q905) q906 q128 rfl (by decide +kernel) (met_X6_number hf) rfl hW dd kx3 kk3
theorem k_X7_fresh_X7 {K : KT} {T : CT} {c0 s0 c1 s1 dk : Nat} {cc : ByteArray} {nL pc : Nat} {L : List (Nat × Value)} {rest : List Value} {g : CG} {d : CD} {v : (XR Int64)} {n : Nat} {x0 : Nat} (C : Kok K cc nL RX7) (B : CB K T) (hta : ht g x0 = 6) (dK : kR K = rmC dk c1 s1) (hd : 9 + 1 ≤ dk) (hcs : c0 + v.2.2.2.1 ≤ c1 ∧ s0 + v.2.2.2.2 ≤ s1) (hf : f_X7_fresh n x0 g d = some v) (hW : (rest.map fun v => v.category).sum ≤ 8) (dd : decode cc pc = .ok (.invokevirtual 99, 3)) (kx : ∀ q, v.1 = .inr q → XT K nL (Wc K T (c0 + v.2.2.2.1) (s0 + v.2.2.2.2) v.2.1 v.2.2.1) pc L rest q) (kk2 : ∀ r, v.1 = .inl r → XJ K nL (Wc K T (c0 + v.2.2.2.1) (s0 + v.2.2.2.2) v.2.1 v.2.2.1) (pc + 3) L ((.long r) :: rest)) : XJ K nL (Wc K T c0 s0 g d) pc L (.ref x0 :: rest) := by
  have kk3 : ∀ w, xoL v.1 = .inl w → XJ K nL (Wc K T (c0 + v.2.2.2.1) (s0 + v.2.2.2.2) v.2.1 v.2.2.1) (pc + 3) L (w.toList ++ rest) := fun w h => by
    obtain ⟨r, e1, rfl⟩ := xoL_l h
    exact kk2 r e1
  have kx3 : ∀ q, xoL v.1 = .inr q → XT K nL (Wc K T (c0 + v.2.2.2.1) (s0 + v.2.2.2.2) v.2.1 v.2.2.1) pc L rest q := fun q h => kx q (xoL_r h)
  exact cx_callV (rest := rest) (o := xoL v.1) [] 0 rfl C B hta (by decide) (by decide) rfl dK hd (Nat.le_of_ble_eq_true rfl) hcs (lw_V q885 q887 qs5 q129 q888) (by decide +kernel) (met_X7_fresh hf) rfl hW dd kx3 kk3
theorem k_X6_known_X7 {K : KT} {T : CT} {c0 s0 c1 s1 dk : Nat} {cc : ByteArray} {nL pc : Nat} {L : List (Nat × Value)} {rest : List Value} {g : CG} {d : CD} {v : (XR Int32)} {n : Nat} {x0 : Nat} {x1 : Nat} {x2 : Int32} (C : Kok K cc nL RX7) (B : CB K T) (hta : ht g x0 = 6) (dK : kR K = rmC dk c1 s1) (hd : 10 + 1 ≤ dk) (hcs : c0 + v.2.2.2.1 ≤ c1 ∧ s0 + v.2.2.2.2 ≤ s1) (hf : f_X6_known n x0 x1 x2 g d = some v) (hW : (rest.map fun v => v.category).sum ≤ 8) (dd : decode cc pc = .ok (.invokevirtual 111, 3)) (kx : ∀ q, v.1 = .inr q → XT K nL (Wc K T (c0 + v.2.2.2.1) (s0 + v.2.2.2.2) v.2.1 v.2.2.1) pc L rest q) (kk2 : ∀ r, v.1 = .inl r → XJ K nL (Wc K T (c0 + v.2.2.2.1) (s0 + v.2.2.2.2) v.2.1 v.2.2.1) (pc + 3) L ((.int r) :: rest)) : XJ K nL (Wc K T c0 s0 g d) pc L (.int x2 :: .ref x1 :: .ref x0 :: rest) := by
  have kk3 : ∀ w, xoI v.1 = .inl w → XJ K nL (Wc K T (c0 + v.2.2.2.1) (s0 + v.2.2.2.2) v.2.1 v.2.2.1) (pc + 3) L (w.toList ++ rest) := fun w h => by
    obtain ⟨r, e1, rfl⟩ := xoI_l h
    exact kk2 r e1
  have kx3 : ∀ q, xoI v.1 = .inr q → XT K nL (Wc K T (c0 + v.2.2.2.1) (s0 + v.2.2.2.2) v.2.1 v.2.2.1) pc L rest q := fun q h => kx q (xoI_r h)
  have e := hta
  · exact cx_callU (rest := rest) (o := xoI v.1) (x := ⟨"StatueRent$CityReader", "known", "([JI)I"⟩) (owner := "StatueRent$Reader") [.ref x1, .int x2] 2 rfl C B e (by decide) (by decide) rfl dK hd (Nat.le_of_ble_eq_true rfl) hcs q914 q909 q910 (C.2.2.2.2.1 _ q912) q913 q128 rfl (by decide +kernel) (met_X6_known hf) rfl hW dd kx3 kk3
theorem k_X6_look_X7 {K : KT} {T : CT} {c0 s0 c1 s1 dk : Nat} {cc : ByteArray} {nL pc : Nat} {L : List (Nat × Value)} {rest : List Value} {g : CG} {d : CD} {v : (XR Int32)} {n : Nat} {x0 : Nat} {x1 : Nat} {x2 : Int32} (C : Kok K cc nL RX7) (B : CB K T) (hta : ht g x0 = 6) (dK : kR K = rmC dk c1 s1) (hd : 9 + 1 ≤ dk) (hcs : c0 + v.2.2.2.1 ≤ c1 ∧ s0 + v.2.2.2.2 ≤ s1) (hf : f_X6_look n x0 x1 x2 g d = some v) (hW : (rest.map fun v => v.category).sum ≤ 8) (dd : decode cc pc = .ok (.invokevirtual 114, 3)) (kx : ∀ q, v.1 = .inr q → XT K nL (Wc K T (c0 + v.2.2.2.1) (s0 + v.2.2.2.2) v.2.1 v.2.2.1) pc L rest q) (kk2 : ∀ r, v.1 = .inl r → XJ K nL (Wc K T (c0 + v.2.2.2.1) (s0 + v.2.2.2.2) v.2.1 v.2.2.1) (pc + 3) L ((.int r) :: rest)) : XJ K nL (Wc K T c0 s0 g d) pc L (.int x2 :: .ref x1 :: .ref x0 :: rest) := by
  have kk3 : ∀ w, xoI v.1 = .inl w → XJ K nL (Wc K T (c0 + v.2.2.2.1) (s0 + v.2.2.2.2) v.2.1 v.2.2.1) (pc + 3) L (w.toList ++ rest) := fun w h => by
    obtain ⟨r, e1, rfl⟩ := xoI_l h
    exact kk2 r e1
  have kx3 : ∀ q, xoI v.1 = .inr q → XT K nL (Wc K T (c0 + v.2.2.2.1) (s0 + v.2.2.2.2) v.2.1 v.2.2.1) pc L rest q := fun q h => kx q (xoI_r h)
  have e := hta
  · exact cx_callU (rest := rest) (o := xoI v.1) (x := ⟨"StatueRent$CityReader", "look", "([JI)I"⟩) (owner := "StatueRent$Reader") [.ref x1, .int x2] 2 rfl C B e (by decide) (by decide) rfl dK hd (Nat.le_of_ble_eq_true rfl) hcs q921 q924 q925 (C.2.2.2.2.1 _ q927) q916 q128 rfl (by decide +kernel) (met_X6_look hf) rfl hW dd kx3 kk3
def f_X7_statue_L69 (n : Nat) : Nat → Nat → Int32 → Int32 → Int32 → CG → CD → Option (XR Unit)
  | 0, _, _, _, _, _, _ => none
  | m + 1, x0, x1, x2, x3, g, d => if x1 ≤ x3 then (if ht g x0 = 6 then (f_X6_next n g x0 d).bind fun r3 => (hr g x0 8).bind fun p4 => if ht g p4 = 3 then (hr g p4 7).bind fun p6 => if ht g p6 = 100 then if inb x1 (hn g p6) = true then ev (wi r3 p6 (Int32.toNatClampNeg x1) x2) fun da9 => (hr g p4 8).bind fun p10 => (f_X6_number n x0 (0 : Int32) (999 : Int32) g da9).bind fun r11 => tick r11.2.2.2.1 r11.2.2.2.2 (xcase r11 fun r14 => if ht r11.2.1 p10 = 100 then if inb x1 (hn r11.2.1 p10) = true then ev (wi r11.2.2.1 p10 (Int32.toNatClampNeg x1) r14) fun da17 => if ht r11.2.1 x0 = 6 then (hr r11.2.1 x0 8).bind fun p19 => if ht r11.2.1 p19 = 3 then (hr r11.2.1 p19 9).bind fun p21 => (f_X6_number n x0 (0 : Int32) (99 : Int32) r11.2.1 da17).bind fun r22 => tick r22.2.2.2.1 r22.2.2.2.2 (xcase r22 fun r25 => if ht r22.2.1 p21 = 100 then if inb x1 (hn r22.2.1 p21) = true then ev (wi r22.2.2.1 p21 (Int32.toNatClampNeg x1) r25) fun da28 => if ht r22.2.1 x0 = 6 then (hr r22.2.1 x0 8).bind fun p30 => if ht r22.2.1 p30 = 3 then ev (wi da28 p30 20 ((hi da28 p30 20) + (1 : Int32))) fun da32 => some (.inl (), r22.2.1, da32, 0, 0) else none else none else none else none) else none else none else none else none) else none else none else none else none) else (if ht g x0 = 6 then (hr g x0 8).bind fun p34 => if ht g p34 = 3 then (hr g p34 7).bind fun p36 => if ht g p36 = 100 then if inb x3 (hn g p36) = true then if (hi d p36 (Int32.toNatClampNeg x3)) = x2 then ((f_X6_must x0 (0 : Int32) (3 : Int32) g d).bind fun r40 => tick r40.2.2.2.1 r40.2.2.2.2 (xcase r40 fun r43 => f_X7_statue_L69 n m x0 x1 x2 (x3 + (1 : Int32)) r40.2.1 r40.2.2.1)) else ((f_X6_must x0 (1 : Int32) (3 : Int32) g d).bind fun r44 => tick r44.2.2.2.1 r44.2.2.2.2 (xcase r44 fun r47 => f_X7_statue_L69 n m x0 x1 x2 (x3 + (1 : Int32)) r44.2.1 r44.2.2.1)) else none else none else none else none)
set_option maxHeartbeats 4000000 in
theorem w_X7_statue_69 {K : KT} {T : CT} {r : (Unit ⊕ Nat)} {g9 : CG} {d9 : CD} {c1 s1 : Nat} (n : Nat) (C : Kok K cX7_statue 4 RX7) (B : CB K T) (hrt : (kMe K).sig.returnType = none) (dK : kR K = rmC 11 c1 s1) (hQ : KQx K T (xoV r) c1 s1 g9 d9) : ∀ (m : Nat) (x0 : Nat) (x1 : Int32) (x2 : Int32) (x3 : Int32) (g : CG) (d : CD) (c0 s0 k m9 : Nat) (hc : c1 = c0 + k) (hs : s1 = s0 + m9) (hf : f_X7_statue_L69 n m x0 x1 x2 x3 g d = some (r, g9, d9, k, m9)), XJ K 4 (Wc K T c0 s0 g d) 69 [(0, .ref x0), (1, .int x1), (2, .int x2), (3, .int x3)] [] := by
  intro m
  induction m with
  | zero => intro x0 x1 x2 x3 g d c0 s0 k m9 hc hs hf; cases hf
  | succ m ih =>
    intro x0 x1 x2 x3 g d c0 s0 k m9 hc hs hf
    rw [f_X7_statue_L69] at hf
    refine x_iload_n C dX7_statue_69 3 rfl ?_
    refine x_iload_n C dX7_statue_70 1 rfl ?_
    refine x_icmp_ge (tgt := 103) C dX7_statue_71 (by decide) (fun w1 => ?_) (fun w1 => ?_)
    · have hf := pf_t w1 hf
      refine x_aload_n C dX7_statue_103 0 rfl ?_
      obtain ⟨t2, hf⟩ := pf_ch hf
      obtain ⟨r3, er3, hf⟩ := pf_b hf
      refine k_X6_next_X7 C B t2 dK (Nat.le_of_ble_eq_true rfl) (by omega) er3 (Nat.le_of_ble_eq_true rfl) dX7_statue_104 ?_
      refine x_aload_n C dX7_statue_107 0 rfl ?_
      obtain ⟨p4, ep4, hf⟩ := pf_b hf
      refine cg6_8 C B t2 (flo C q488) fsm ep4 dX7_statue_108 ?_
      obtain ⟨t5, hf⟩ := pf_ch hf
      obtain ⟨p6, ep6, hf⟩ := pf_b hf
      refine cg3_7 C B t5 (fln B q294) fsm ep6 dX7_statue_111 ?_
      refine x_iload_n C dX7_statue_114 1 rfl ?_
      refine x_iload_n C dX7_statue_115 2 rfl ?_
      obtain ⟨t7, hf⟩ := pf_ch hf
      obtain ⟨h8, hf⟩ := pf_in hf
      refine ca_ist C B t7 h8 dX7_statue_116 ?_
      obtain ⟨da9, eda9, hf⟩ := pf_e hf
      refine c_ren eda9 ?_
      refine x_aload_n C dX7_statue_117 0 rfl ?_
      refine cg6_8 C B t2 (flo C q488) fsm ep4 dX7_statue_118 ?_
      obtain ⟨p10, ep10, hf⟩ := pf_b hf
      refine cg3_8 C B t5 (fln B q297) fsm ep10 dX7_statue_121 ?_
      refine x_iload_n C dX7_statue_124 1 rfl ?_
      refine x_aload_n C dX7_statue_125 0 rfl ?_
      refine x_iconst (0 : Int32) C dX7_statue_126 (by decide) ?_
      refine x_sipush (999 : Int32) C dX7_statue_127 (by decide) ?_
      obtain ⟨r11, er11, hf⟩ := pf_b hf
      obtain ⟨j12, i13, ej12, ei13, hf⟩ := pf_tk hf
      refine k_X6_number_X7 C B t2 dK (Nat.le_of_ble_eq_true rfl) (by omega) er11 (Nat.le_of_ble_eq_true rfl) dX7_statue_130 (fun q eq => ?_) (fun r14 er14 => ?_)
      · obtain ⟨rfl, rfl, rfl, rfl, rfl⟩ := pf_xr eq hf
        exact c_csT (by omega) (by omega) (c_out C hQ)
      have hf := pf_xl er14 hf
      obtain ⟨t15, hf⟩ := pf_ch hf
      obtain ⟨h16, hf⟩ := pf_in hf
      refine ca_ist C B t15 h16 dX7_statue_133 ?_
      obtain ⟨da17, eda17, hf⟩ := pf_e hf
      refine c_ren eda17 ?_
      refine x_aload_n C dX7_statue_134 0 rfl ?_
      obtain ⟨t18, hf⟩ := pf_ch hf
      obtain ⟨p19, ep19, hf⟩ := pf_b hf
      refine cg6_8 C B t18 (flo C q488) fsm ep19 dX7_statue_135 ?_
      obtain ⟨t20, hf⟩ := pf_ch hf
      obtain ⟨p21, ep21, hf⟩ := pf_b hf
      refine cg3_9 C B t20 (fln B q299) fsm ep21 dX7_statue_138 ?_
      refine x_iload_n C dX7_statue_141 1 rfl ?_
      refine x_aload_n C dX7_statue_142 0 rfl ?_
      refine x_iconst (0 : Int32) C dX7_statue_143 (by decide) ?_
      refine x_bipush (99 : Int32) C dX7_statue_144 (by decide) ?_
      obtain ⟨r22, er22, hf⟩ := pf_b hf
      obtain ⟨j23, i24, ej23, ei24, hf⟩ := pf_tk hf
      refine k_X6_number_X7 C B t18 dK (Nat.le_of_ble_eq_true rfl) (by omega) er22 (Nat.le_of_ble_eq_true rfl) dX7_statue_146 (fun q eq => ?_) (fun r25 er25 => ?_)
      · obtain ⟨rfl, rfl, rfl, rfl, rfl⟩ := pf_xr eq hf
        exact c_csT (by omega) (by omega) (c_out C hQ)
      have hf := pf_xl er25 hf
      obtain ⟨t26, hf⟩ := pf_ch hf
      obtain ⟨h27, hf⟩ := pf_in hf
      refine ca_ist C B t26 h27 dX7_statue_149 ?_
      obtain ⟨da28, eda28, hf⟩ := pf_e hf
      refine c_ren eda28 ?_
      refine x_aload_n C dX7_statue_150 0 rfl ?_
      obtain ⟨t29, hf⟩ := pf_ch hf
      obtain ⟨p30, ep30, hf⟩ := pf_b hf
      refine cg6_8 C B t29 (flo C q488) fsm ep30 dX7_statue_151 ?_
      refine x_dup C dX7_statue_154 rfl ?_
      obtain ⟨t31, hf⟩ := pf_ch hf
      refine cg3_20 C B t31 (fln B q336) fsm dX7_statue_155 ?_
      refine x_iconst (1 : Int32) C dX7_statue_158 (by decide) ?_
      refine x_iadd C dX7_statue_159 ?_
      refine cp3_20 C B t31 (fln B q336) fsm dX7_statue_160 ?_
      obtain ⟨da32, eda32, hf⟩ := pf_e hf
      refine c_ren eda32 ?_
      obtain ⟨rfl, rfl, rfl, rfl, rfl⟩ := sr_inj hf
      refine c_cs (c0 := c1) (s0 := s1) (by omega) (by omega) ?_
      exact x_ret hQ (c_vret (K := kW K _) C hrt rfl dX7_statue_163)
    · have hf := pf_f w1 hf
      refine x_aload_n C dX7_statue_74 0 rfl ?_
      refine x_aload_n C dX7_statue_75 0 rfl ?_
      obtain ⟨t33, hf⟩ := pf_ch hf
      obtain ⟨p34, ep34, hf⟩ := pf_b hf
      refine cg6_8 C B t33 (flo C q488) fsm ep34 dX7_statue_76 ?_
      obtain ⟨t35, hf⟩ := pf_ch hf
      obtain ⟨p36, ep36, hf⟩ := pf_b hf
      refine cg3_7 C B t35 (fln B q294) fsm ep36 dX7_statue_79 ?_
      refine x_iload_n C dX7_statue_82 3 rfl ?_
      obtain ⟨t37, hf⟩ := pf_ch hf
      obtain ⟨h38, hf⟩ := pf_in hf
      refine ca_ild C B t37 h38 dX7_statue_83 ?_
      refine x_iload_n C dX7_statue_84 2 rfl ?_
      refine x_icmp_eq (tgt := 92) C dX7_statue_85 (by decide) (fun w39 => ?_) (fun w39 => ?_)
      · have hf := pf_t w39 hf
        refine x_iconst (0 : Int32) C dX7_statue_92 (by decide) ?_
        refine x_iconst (3 : Int32) C dX7_statue_93 (by decide) ?_
        obtain ⟨r40, er40, hf⟩ := pf_b hf
        obtain ⟨j41, i42, ej41, ei42, hf⟩ := pf_tk hf
        refine k_X6_must_X7 C B t33 dK (Nat.le_of_ble_eq_true rfl) (by omega) er40 (Nat.le_of_ble_eq_true rfl) dX7_statue_94 (fun q eq => ?_) (fun r43 er43 => ?_)
        · obtain ⟨rfl, rfl, rfl, rfl, rfl⟩ := pf_xr eq hf
          exact c_csT (by omega) (by omega) (c_out C hQ)
        have hf := pf_xl er43 hf
        refine x_inc (c := (1 : Int32)) (L' := [(0, .ref x0), (1, .int x1), (2, .int x2), (3, .int (x3 + (1 : Int32)))]) C dX7_statue_97 3 rfl (by decide) (Nat.le_of_ble_eq_true rfl) [1, 2, 3, 0] rfl ?_
        refine x_goto (tgt := 69) C dX7_statue_100 (by decide) ?_
        exact ih x0 x1 x2 (x3 + (1 : Int32)) _ _ _ _ _ _ (by omega) (by omega) hf
      · have hf := pf_f w39 hf
        refine x_iconst (1 : Int32) C dX7_statue_88 (by decide) ?_
        refine x_goto (tgt := 93) C dX7_statue_89 (by decide) ?_
        refine x_iconst (3 : Int32) C dX7_statue_93 (by decide) ?_
        obtain ⟨r44, er44, hf⟩ := pf_b hf
        obtain ⟨j45, i46, ej45, ei46, hf⟩ := pf_tk hf
        refine k_X6_must_X7 C B t33 dK (Nat.le_of_ble_eq_true rfl) (by omega) er44 (Nat.le_of_ble_eq_true rfl) dX7_statue_94 (fun q eq => ?_) (fun r47 er47 => ?_)
        · obtain ⟨rfl, rfl, rfl, rfl, rfl⟩ := pf_xr eq hf
          exact c_csT (by omega) (by omega) (c_out C hQ)
        have hf := pf_xl er47 hf
        refine x_inc (c := (1 : Int32)) (L' := [(0, .ref x0), (1, .int x1), (2, .int x2), (3, .int (x3 + (1 : Int32)))]) C dX7_statue_97 3 rfl (by decide) (Nat.le_of_ble_eq_true rfl) [1, 2, 3, 0] rfl ?_
        refine x_goto (tgt := 69) C dX7_statue_100 (by decide) ?_
        exact ih x0 x1 x2 (x3 + (1 : Int32)) _ _ _ _ _ _ (by omega) (by omega) hf
def f_X7_statue (n : Nat) (x0 : Nat) (g : CG) (d : CD) : Option (XR Unit) := if ht g x0 = 6 then (hr g x0 8).bind fun p2 => if ht g p2 = 3 then ev (hi d p2 20) fun v4 => (hr g p2 2).bind fun p5 => (f_X7_fresh n x0 g d).bind fun r6 => tick r6.2.2.2.1 r6.2.2.2.2 (xcase r6 fun r9 => if ht r6.2.1 p5 = 101 then if inb v4 (hn r6.2.1 p5) = true then ev (wl r6.2.2.1 p5 (Int32.toNatClampNeg v4) r9) fun da12 => if ht r6.2.1 x0 = 6 then (hr r6.2.1 x0 8).bind fun p14 => if ht r6.2.1 p14 = 3 then (hr r6.2.1 p14 6).bind fun p16 => (hr r6.2.1 p14 1).bind fun p17 => (f_X6_known n x0 p17 (hi da12 p14 19) r6.2.1 da12).bind fun r18 => tick r18.2.2.2.1 r18.2.2.2.2 (xcase r18 fun r21 => if ht r18.2.1 p16 = 100 then if inb v4 (hn r18.2.1 p16) = true then ev (wi r18.2.2.1 p16 (Int32.toNatClampNeg v4) r21) fun da24 => if ht r18.2.1 x0 = 6 then (hr r18.2.1 x0 8).bind fun p26 => if ht r18.2.1 p26 = 3 then (hr r18.2.1 p26 0).bind fun p28 => (f_X6_look n x0 p28 (hi da24 p26 17) r18.2.1 da24).bind fun r29 => tick r29.2.2.2.1 r29.2.2.2.2 (xcase r29 fun r32 => f_X7_statue_L69 n n x0 v4 r32 (0 : Int32) r29.2.1 r29.2.2.1) else none else none else none else none) else none else none else none else none) else none else none
set_option maxHeartbeats 4000000 in
theorem w_X7_statue_E {K : KT} {T : CT} {r : (Unit ⊕ Nat)} {g9 : CG} {d9 : CD} {c1 s1 : Nat} (n : Nat) (C : Kok K cX7_statue 4 RX7) (B : CB K T) (hrt : (kMe K).sig.returnType = none) (dK : kR K = rmC 11 c1 s1) (hQ : KQx K T (xoV r) c1 s1 g9 d9) (x0 : Nat) (g : CG) (d : CD) (c0 s0 k m9 : Nat) (hc : c1 = c0 + k) (hs : s1 = s0 + m9) (hf : f_X7_statue n x0 g d = some (r, g9, d9, k, m9)) : XJ K 4 (Wc K T c0 s0 g d) 0 [(0, .ref x0)] [] := by
  unfold f_X7_statue at hf
  refine x_aload_n C dX7_statue_0 0 rfl ?_
  obtain ⟨t1, hf⟩ := pf_ch hf
  obtain ⟨p2, ep2, hf⟩ := pf_b hf
  refine cg6_8 C B t1 (flo C q488) fsm ep2 dX7_statue_1 ?_
  obtain ⟨t3, hf⟩ := pf_ch hf
  refine cg3_20 C B t3 (fln B q336) fsm dX7_statue_4 ?_
  obtain ⟨v4, ev4, hf⟩ := pf_e hf
  refine x_topir ev4 ?_
  refine x_istore_n (L' := [(0, .ref x0), (1, .int v4)]) C dX7_statue_7 (Nat.le_of_ble_eq_true rfl) [1, 0] rfl ?_
  refine x_aload_n C dX7_statue_8 0 rfl ?_
  refine cg6_8 C B t1 (flo C q488) fsm ep2 dX7_statue_9 ?_
  obtain ⟨p5, ep5, hf⟩ := pf_b hf
  refine cg3_2 C B t3 (fln B q278) fsm ep5 dX7_statue_12 ?_
  refine x_iload_n C dX7_statue_15 1 rfl ?_
  refine x_aload_n C dX7_statue_16 0 rfl ?_
  obtain ⟨r6, er6, hf⟩ := pf_b hf
  obtain ⟨j7, i8, ej7, ei8, hf⟩ := pf_tk hf
  refine k_X7_fresh_X7 C B t1 dK (Nat.le_of_ble_eq_true rfl) (by omega) er6 (Nat.le_of_ble_eq_true rfl) dX7_statue_17 (fun q eq => ?_) (fun r9 er9 => ?_)
  · obtain ⟨rfl, rfl, rfl, rfl, rfl⟩ := pf_xr eq hf
    exact c_csT (by omega) (by omega) (c_out C hQ)
  have hf := pf_xl er9 hf
  obtain ⟨t10, hf⟩ := pf_ch hf
  obtain ⟨h11, hf⟩ := pf_in hf
  refine ca_lst C B t10 h11 dX7_statue_20 ?_
  obtain ⟨da12, eda12, hf⟩ := pf_e hf
  refine c_ren eda12 ?_
  refine x_aload_n C dX7_statue_21 0 rfl ?_
  obtain ⟨t13, hf⟩ := pf_ch hf
  obtain ⟨p14, ep14, hf⟩ := pf_b hf
  refine cg6_8 C B t13 (flo C q488) fsm ep14 dX7_statue_22 ?_
  obtain ⟨t15, hf⟩ := pf_ch hf
  obtain ⟨p16, ep16, hf⟩ := pf_b hf
  refine cg3_6 C B t15 (fln B q291) fsm ep16 dX7_statue_25 ?_
  refine x_iload_n C dX7_statue_28 1 rfl ?_
  refine x_aload_n C dX7_statue_29 0 rfl ?_
  refine x_aload_n C dX7_statue_30 0 rfl ?_
  refine cg6_8 C B t13 (flo C q488) fsm ep14 dX7_statue_31 ?_
  obtain ⟨p17, ep17, hf⟩ := pf_b hf
  refine cg3_1 C B t15 (fln B q274) fsm ep17 dX7_statue_34 ?_
  refine x_aload_n C dX7_statue_37 0 rfl ?_
  refine cg6_8 C B t13 (flo C q488) fsm ep14 dX7_statue_38 ?_
  refine cg3_19 C B t15 (fln B q329) fsm dX7_statue_41 ?_
  obtain ⟨r18, er18, hf⟩ := pf_b hf
  obtain ⟨j19, i20, ej19, ei20, hf⟩ := pf_tk hf
  refine k_X6_known_X7 C B t13 dK (Nat.le_of_ble_eq_true rfl) (by omega) er18 (Nat.le_of_ble_eq_true rfl) dX7_statue_44 (fun q eq => ?_) (fun r21 er21 => ?_)
  · obtain ⟨rfl, rfl, rfl, rfl, rfl⟩ := pf_xr eq hf
    exact c_csT (by omega) (by omega) (c_out C hQ)
  have hf := pf_xl er21 hf
  obtain ⟨t22, hf⟩ := pf_ch hf
  obtain ⟨h23, hf⟩ := pf_in hf
  refine ca_ist C B t22 h23 dX7_statue_47 ?_
  obtain ⟨da24, eda24, hf⟩ := pf_e hf
  refine c_ren eda24 ?_
  refine x_aload_n C dX7_statue_48 0 rfl ?_
  refine x_aload_n C dX7_statue_49 0 rfl ?_
  obtain ⟨t25, hf⟩ := pf_ch hf
  obtain ⟨p26, ep26, hf⟩ := pf_b hf
  refine cg6_8 C B t25 (flo C q488) fsm ep26 dX7_statue_50 ?_
  obtain ⟨t27, hf⟩ := pf_ch hf
  obtain ⟨p28, ep28, hf⟩ := pf_b hf
  refine cg3_0 C B t27 (fln B q269) fsm ep28 dX7_statue_53 ?_
  refine x_aload_n C dX7_statue_56 0 rfl ?_
  refine cg6_8 C B t25 (flo C q488) fsm ep26 dX7_statue_57 ?_
  refine cg3_17 C B t27 (fln B q323) fsm dX7_statue_60 ?_
  obtain ⟨r29, er29, hf⟩ := pf_b hf
  obtain ⟨j30, i31, ej30, ei31, hf⟩ := pf_tk hf
  refine k_X6_look_X7 C B t25 dK (Nat.le_of_ble_eq_true rfl) (by omega) er29 (Nat.le_of_ble_eq_true rfl) dX7_statue_63 (fun q eq => ?_) (fun r32 er32 => ?_)
  · obtain ⟨rfl, rfl, rfl, rfl, rfl⟩ := pf_xr eq hf
    exact c_csT (by omega) (by omega) (c_out C hQ)
  have hf := pf_xl er32 hf
  refine x_istore_n (L' := [(0, .ref x0), (1, .int v4), (2, .int r32)]) C dX7_statue_66 (Nat.le_of_ble_eq_true rfl) [1, 2, 0] rfl ?_
  refine x_iconst (0 : Int32) C dX7_statue_67 (by decide) ?_
  refine x_istore_n (L' := [(0, .ref x0), (1, .int v4), (2, .int r32), (3, .int (0 : Int32))]) C dX7_statue_68 (Nat.le_of_ble_eq_true rfl) [1, 2, 3, 0] rfl ?_
  exact w_X7_statue_69 n C B hrt dK hQ n x0 v4 r32 (0 : Int32) _ _ _ _ _ _ (by omega) (by omega) hf
theorem met_X7_statue {T : CT} {v : (XR Unit)} {n : Nat} {g : CG} {d : CD} {x0 : Nat} {l : Launch}  (hf : f_X7_statue n x0 g d = some v) : vy_Met l yX7_statue (ws_ yX7_statue cX7_statue 4 none) (rmC 11 v.2.2.2.1 v.2.2.2.2) (va_Pc [.ref x0] (CU T g d)) (Qx T (xoV v.1) v.2.1 v.2.2.1) (Xx T (xoV v.1) v.2.1 v.2.2.1) v.2.2.2.1 v.2.2.2.2 (cA T) :=
  cx_met [.ref x0] RX7 (by decide) rfl (Nat.le_of_ble_eq_true rfl) (fun K hl hR hrt C B hQ => w_X7_statue_E n C B hrt hR hQ _ _ _ 0 0 _ _ (Nat.zero_add _).symm (Nat.zero_add _).symm hf)
def f_X7_walker (n : Nat) (x0 : Nat) (g : CG) (d : CD) : Option (XR Unit) := if ht g x0 = 6 then (hr g x0 8).bind fun p2 => if ht g p2 = 3 then ev (hi d p2 21) fun v4 => (hr g p2 3).bind fun p5 => (f_X7_fresh n x0 g d).bind fun r6 => tick r6.2.2.2.1 r6.2.2.2.2 (xcase r6 fun r9 => if ht r6.2.1 p5 = 101 then if inb v4 (hn r6.2.1 p5) = true then ev (wl r6.2.2.1 p5 (Int32.toNatClampNeg v4) r9) fun da12 => if ht r6.2.1 x0 = 6 then (hr r6.2.1 x0 8).bind fun p14 => if ht r6.2.1 p14 = 3 then (hr r6.2.1 p14 10).bind fun p16 => (hr r6.2.1 p14 0).bind fun p17 => (f_X6_known n x0 p17 (hi da12 p14 17) r6.2.1 da12).bind fun r18 => tick r18.2.2.2.1 r18.2.2.2.2 (xcase r18 fun r21 => if ht r18.2.1 p16 = 100 then if inb v4 (hn r18.2.1 p16) = true then ev (wi r18.2.2.1 p16 (Int32.toNatClampNeg v4) r21) fun da24 => if ht r18.2.1 x0 = 6 then (hr r18.2.1 x0 8).bind fun p26 => if ht r18.2.1 p26 = 3 then (hr r18.2.1 p26 11).bind fun p28 => (hr r18.2.1 p26 0).bind fun p29 => (f_X6_known n x0 p29 (hi da24 p26 17) r18.2.1 da24).bind fun r30 => tick r30.2.2.2.1 r30.2.2.2.2 (xcase r30 fun r33 => if ht r30.2.1 p28 = 100 then if inb v4 (hn r30.2.1 p28) = true then ev (wi r30.2.2.1 p28 (Int32.toNatClampNeg v4) r33) fun da36 => if ht r30.2.1 x0 = 6 then (hr r30.2.1 x0 8).bind fun p38 => if ht r30.2.1 p38 = 3 then (hr r30.2.1 p38 12).bind fun p40 => (f_X6_number n x0 (1 : Int32) (7 : Int32) r30.2.1 da36).bind fun r41 => tick r41.2.2.2.1 r41.2.2.2.2 (xcase r41 fun r44 => if ht r41.2.1 p40 = 100 then if inb v4 (hn r41.2.1 p40) = true then ev (wi r41.2.2.1 p40 (Int32.toNatClampNeg v4) r44) fun da47 => if ht r41.2.1 x0 = 6 then (hr r41.2.1 x0 8).bind fun p49 => if ht r41.2.1 p49 = 3 then (hr r41.2.1 p49 13).bind fun p51 => (f_X6_number n x0 (0 : Int32) (9 : Int32) r41.2.1 da47).bind fun r52 => tick r52.2.2.2.1 r52.2.2.2.2 (xcase r52 fun r55 => if ht r52.2.1 p51 = 100 then if inb v4 (hn r52.2.1 p51) = true then ev (wi r52.2.2.1 p51 (Int32.toNatClampNeg v4) r55) fun da58 => if ht r52.2.1 x0 = 6 then (hr r52.2.1 x0 8).bind fun p60 => if ht r52.2.1 p60 = 3 then ev (wi da58 p60 21 ((hi da58 p60 21) + (1 : Int32))) fun da62 => some (.inl (), r52.2.1, da62, 0, 0) else none else none else none else none) else none else none else none else none) else none else none else none else none) else none else none else none else none) else none else none else none else none) else none else none
set_option maxHeartbeats 4000000 in
theorem w_X7_walker_E {K : KT} {T : CT} {r : (Unit ⊕ Nat)} {g9 : CG} {d9 : CD} {c1 s1 : Nat} (n : Nat) (C : Kok K cX7_walker 2 RX7) (B : CB K T) (hrt : (kMe K).sig.returnType = none) (dK : kR K = rmC 11 c1 s1) (hQ : KQx K T (xoV r) c1 s1 g9 d9) (x0 : Nat) (g : CG) (d : CD) (c0 s0 k m9 : Nat) (hc : c1 = c0 + k) (hs : s1 = s0 + m9) (hf : f_X7_walker n x0 g d = some (r, g9, d9, k, m9)) : XJ K 2 (Wc K T c0 s0 g d) 0 [(0, .ref x0)] [] := by
  unfold f_X7_walker at hf
  refine x_aload_n C dX7_walker_0 0 rfl ?_
  obtain ⟨t1, hf⟩ := pf_ch hf
  obtain ⟨p2, ep2, hf⟩ := pf_b hf
  refine cg6_8 C B t1 (flo C q488) fsm ep2 dX7_walker_1 ?_
  obtain ⟨t3, hf⟩ := pf_ch hf
  refine cg3_21 C B t3 (fln B q339) fsm dX7_walker_4 ?_
  obtain ⟨v4, ev4, hf⟩ := pf_e hf
  refine x_topir ev4 ?_
  refine x_istore_n (L' := [(0, .ref x0), (1, .int v4)]) C dX7_walker_7 (Nat.le_of_ble_eq_true rfl) [1, 0] rfl ?_
  refine x_aload_n C dX7_walker_8 0 rfl ?_
  refine cg6_8 C B t1 (flo C q488) fsm ep2 dX7_walker_9 ?_
  obtain ⟨p5, ep5, hf⟩ := pf_b hf
  refine cg3_3 C B t3 (fln B q281) fsm ep5 dX7_walker_12 ?_
  refine x_iload_n C dX7_walker_15 1 rfl ?_
  refine x_aload_n C dX7_walker_16 0 rfl ?_
  obtain ⟨r6, er6, hf⟩ := pf_b hf
  obtain ⟨j7, i8, ej7, ei8, hf⟩ := pf_tk hf
  refine k_X7_fresh_X7 C B t1 dK (Nat.le_of_ble_eq_true rfl) (by omega) er6 (Nat.le_of_ble_eq_true rfl) dX7_walker_17 (fun q eq => ?_) (fun r9 er9 => ?_)
  · obtain ⟨rfl, rfl, rfl, rfl, rfl⟩ := pf_xr eq hf
    exact c_csT (by omega) (by omega) (c_out C hQ)
  have hf := pf_xl er9 hf
  obtain ⟨t10, hf⟩ := pf_ch hf
  obtain ⟨h11, hf⟩ := pf_in hf
  refine ca_lst C B t10 h11 dX7_walker_20 ?_
  obtain ⟨da12, eda12, hf⟩ := pf_e hf
  refine c_ren eda12 ?_
  refine x_aload_n C dX7_walker_21 0 rfl ?_
  obtain ⟨t13, hf⟩ := pf_ch hf
  obtain ⟨p14, ep14, hf⟩ := pf_b hf
  refine cg6_8 C B t13 (flo C q488) fsm ep14 dX7_walker_22 ?_
  obtain ⟨t15, hf⟩ := pf_ch hf
  obtain ⟨p16, ep16, hf⟩ := pf_b hf
  refine cg3_10 C B t15 (fln B q302) fsm ep16 dX7_walker_25 ?_
  refine x_iload_n C dX7_walker_28 1 rfl ?_
  refine x_aload_n C dX7_walker_29 0 rfl ?_
  refine x_aload_n C dX7_walker_30 0 rfl ?_
  refine cg6_8 C B t13 (flo C q488) fsm ep14 dX7_walker_31 ?_
  obtain ⟨p17, ep17, hf⟩ := pf_b hf
  refine cg3_0 C B t15 (fln B q269) fsm ep17 dX7_walker_34 ?_
  refine x_aload_n C dX7_walker_37 0 rfl ?_
  refine cg6_8 C B t13 (flo C q488) fsm ep14 dX7_walker_38 ?_
  refine cg3_17 C B t15 (fln B q323) fsm dX7_walker_41 ?_
  obtain ⟨r18, er18, hf⟩ := pf_b hf
  obtain ⟨j19, i20, ej19, ei20, hf⟩ := pf_tk hf
  refine k_X6_known_X7 C B t13 dK (Nat.le_of_ble_eq_true rfl) (by omega) er18 (Nat.le_of_ble_eq_true rfl) dX7_walker_44 (fun q eq => ?_) (fun r21 er21 => ?_)
  · obtain ⟨rfl, rfl, rfl, rfl, rfl⟩ := pf_xr eq hf
    exact c_csT (by omega) (by omega) (c_out C hQ)
  have hf := pf_xl er21 hf
  obtain ⟨t22, hf⟩ := pf_ch hf
  obtain ⟨h23, hf⟩ := pf_in hf
  refine ca_ist C B t22 h23 dX7_walker_47 ?_
  obtain ⟨da24, eda24, hf⟩ := pf_e hf
  refine c_ren eda24 ?_
  refine x_aload_n C dX7_walker_48 0 rfl ?_
  obtain ⟨t25, hf⟩ := pf_ch hf
  obtain ⟨p26, ep26, hf⟩ := pf_b hf
  refine cg6_8 C B t25 (flo C q488) fsm ep26 dX7_walker_49 ?_
  obtain ⟨t27, hf⟩ := pf_ch hf
  obtain ⟨p28, ep28, hf⟩ := pf_b hf
  refine cg3_11 C B t27 (fln B q305) fsm ep28 dX7_walker_52 ?_
  refine x_iload_n C dX7_walker_55 1 rfl ?_
  refine x_aload_n C dX7_walker_56 0 rfl ?_
  refine x_aload_n C dX7_walker_57 0 rfl ?_
  refine cg6_8 C B t25 (flo C q488) fsm ep26 dX7_walker_58 ?_
  obtain ⟨p29, ep29, hf⟩ := pf_b hf
  refine cg3_0 C B t27 (fln B q269) fsm ep29 dX7_walker_61 ?_
  refine x_aload_n C dX7_walker_64 0 rfl ?_
  refine cg6_8 C B t25 (flo C q488) fsm ep26 dX7_walker_65 ?_
  refine cg3_17 C B t27 (fln B q323) fsm dX7_walker_68 ?_
  obtain ⟨r30, er30, hf⟩ := pf_b hf
  obtain ⟨j31, i32, ej31, ei32, hf⟩ := pf_tk hf
  refine k_X6_known_X7 C B t25 dK (Nat.le_of_ble_eq_true rfl) (by omega) er30 (Nat.le_of_ble_eq_true rfl) dX7_walker_71 (fun q eq => ?_) (fun r33 er33 => ?_)
  · obtain ⟨rfl, rfl, rfl, rfl, rfl⟩ := pf_xr eq hf
    exact c_csT (by omega) (by omega) (c_out C hQ)
  have hf := pf_xl er33 hf
  obtain ⟨t34, hf⟩ := pf_ch hf
  obtain ⟨h35, hf⟩ := pf_in hf
  refine ca_ist C B t34 h35 dX7_walker_74 ?_
  obtain ⟨da36, eda36, hf⟩ := pf_e hf
  refine c_ren eda36 ?_
  refine x_aload_n C dX7_walker_75 0 rfl ?_
  obtain ⟨t37, hf⟩ := pf_ch hf
  obtain ⟨p38, ep38, hf⟩ := pf_b hf
  refine cg6_8 C B t37 (flo C q488) fsm ep38 dX7_walker_76 ?_
  obtain ⟨t39, hf⟩ := pf_ch hf
  obtain ⟨p40, ep40, hf⟩ := pf_b hf
  refine cg3_12 C B t39 (fln B q308) fsm ep40 dX7_walker_79 ?_
  refine x_iload_n C dX7_walker_82 1 rfl ?_
  refine x_aload_n C dX7_walker_83 0 rfl ?_
  refine x_iconst (1 : Int32) C dX7_walker_84 (by decide) ?_
  refine x_bipush (7 : Int32) C dX7_walker_85 (by decide) ?_
  obtain ⟨r41, er41, hf⟩ := pf_b hf
  obtain ⟨j42, i43, ej42, ei43, hf⟩ := pf_tk hf
  refine k_X6_number_X7 C B t37 dK (Nat.le_of_ble_eq_true rfl) (by omega) er41 (Nat.le_of_ble_eq_true rfl) dX7_walker_87 (fun q eq => ?_) (fun r44 er44 => ?_)
  · obtain ⟨rfl, rfl, rfl, rfl, rfl⟩ := pf_xr eq hf
    exact c_csT (by omega) (by omega) (c_out C hQ)
  have hf := pf_xl er44 hf
  obtain ⟨t45, hf⟩ := pf_ch hf
  obtain ⟨h46, hf⟩ := pf_in hf
  refine ca_ist C B t45 h46 dX7_walker_90 ?_
  obtain ⟨da47, eda47, hf⟩ := pf_e hf
  refine c_ren eda47 ?_
  refine x_aload_n C dX7_walker_91 0 rfl ?_
  obtain ⟨t48, hf⟩ := pf_ch hf
  obtain ⟨p49, ep49, hf⟩ := pf_b hf
  refine cg6_8 C B t48 (flo C q488) fsm ep49 dX7_walker_92 ?_
  obtain ⟨t50, hf⟩ := pf_ch hf
  obtain ⟨p51, ep51, hf⟩ := pf_b hf
  refine cg3_13 C B t50 (fln B q312) fsm ep51 dX7_walker_95 ?_
  refine x_iload_n C dX7_walker_98 1 rfl ?_
  refine x_aload_n C dX7_walker_99 0 rfl ?_
  refine x_iconst (0 : Int32) C dX7_walker_100 (by decide) ?_
  refine x_bipush (9 : Int32) C dX7_walker_101 (by decide) ?_
  obtain ⟨r52, er52, hf⟩ := pf_b hf
  obtain ⟨j53, i54, ej53, ei54, hf⟩ := pf_tk hf
  refine k_X6_number_X7 C B t48 dK (Nat.le_of_ble_eq_true rfl) (by omega) er52 (Nat.le_of_ble_eq_true rfl) dX7_walker_103 (fun q eq => ?_) (fun r55 er55 => ?_)
  · obtain ⟨rfl, rfl, rfl, rfl, rfl⟩ := pf_xr eq hf
    exact c_csT (by omega) (by omega) (c_out C hQ)
  have hf := pf_xl er55 hf
  obtain ⟨t56, hf⟩ := pf_ch hf
  obtain ⟨h57, hf⟩ := pf_in hf
  refine ca_ist C B t56 h57 dX7_walker_106 ?_
  obtain ⟨da58, eda58, hf⟩ := pf_e hf
  refine c_ren eda58 ?_
  refine x_aload_n C dX7_walker_107 0 rfl ?_
  obtain ⟨t59, hf⟩ := pf_ch hf
  obtain ⟨p60, ep60, hf⟩ := pf_b hf
  refine cg6_8 C B t59 (flo C q488) fsm ep60 dX7_walker_108 ?_
  refine x_dup C dX7_walker_111 rfl ?_
  obtain ⟨t61, hf⟩ := pf_ch hf
  refine cg3_21 C B t61 (fln B q339) fsm dX7_walker_112 ?_
  refine x_iconst (1 : Int32) C dX7_walker_115 (by decide) ?_
  refine x_iadd C dX7_walker_116 ?_
  refine cp3_21 C B t61 (fln B q339) fsm dX7_walker_117 ?_
  obtain ⟨da62, eda62, hf⟩ := pf_e hf
  refine c_ren eda62 ?_
  obtain ⟨rfl, rfl, rfl, rfl, rfl⟩ := sr_inj hf
  refine c_cs (c0 := c1) (s0 := s1) (by omega) (by omega) ?_
  exact x_ret hQ (c_vret (K := kW K _) C hrt rfl dX7_walker_120)
theorem met_X7_walker {T : CT} {v : (XR Unit)} {n : Nat} {g : CG} {d : CD} {x0 : Nat} {l : Launch}  (hf : f_X7_walker n x0 g d = some v) : vy_Met l yX7_walker (ws_ yX7_walker cX7_walker 2 none) (rmC 11 v.2.2.2.1 v.2.2.2.2) (va_Pc [.ref x0] (CU T g d)) (Qx T (xoV v.1) v.2.1 v.2.2.1) (Xx T (xoV v.1) v.2.1 v.2.2.1) v.2.2.2.1 v.2.2.2.2 (cA T) :=
  cx_met [.ref x0] RX7 (by decide) rfl (Nat.le_of_ble_eq_true rfl) (fun K hl hR hrt C B hQ => w_X7_walker_E n C B hrt hR hQ _ _ _ 0 0 _ _ (Nat.zero_add _).symm (Nat.zero_add _).symm hf)
theorem k_X1_has_X7 {K : KT} {T : CT} {c0 s0 c1 s1 dk : Nat} {cc : ByteArray} {nL pc : Nat} {L : List (Nat × Value)} {rest : List Value} {g : CG} {d : CD} {v : Int32} {x0 : Int32} {x1 : Int32} (C : Kok K cc nL RX7) (B : CB K T) (dK : kR K = rmC dk c1 s1) (hd : 2 + 1 ≤ dk) (hcs : c0 + 0 ≤ c1 ∧ s0 + 0 ≤ s1) (hf : f_X1_has x0 x1 = v) (hW : (rest.map fun v => v.category).sum ≤ 8) (dd : decode cc pc = .ok (.invokestatic 119, 3)) (kk2 : XJ K nL (Wc K T c0 s0 g d) (pc + 3) L ((.int v) :: rest)) : XJ K nL (Wc K T c0 s0 g d) pc L (.int x1 :: .int x0 :: rest) :=
  c_callSN (rest := rest) (v := (some (.int v))) [.int x0, .int x1] 2 rfl C B dK hd (Nat.le_of_ble_eq_true rfl) hcs (lw_meth q930) q928 q929 q121 (by decide +kernel) (met_X1_has hf) rfl hW dd kk2
theorem k_X7_statue_X7 {K : KT} {T : CT} {c0 s0 c1 s1 dk : Nat} {cc : ByteArray} {nL pc : Nat} {L : List (Nat × Value)} {rest : List Value} {g : CG} {d : CD} {v : (XR Unit)} {n : Nat} {x0 : Nat} (C : Kok K cc nL RX7) (B : CB K T) (hta : ht g x0 = 6) (dK : kR K = rmC dk c1 s1) (hd : 11 + 1 ≤ dk) (hcs : c0 + v.2.2.2.1 ≤ c1 ∧ s0 + v.2.2.2.2 ≤ s1) (hf : f_X7_statue n x0 g d = some v) (hW : (rest.map fun v => v.category).sum ≤ 8) (dd : decode cc pc = .ok (.invokevirtual 123, 3)) (kx : ∀ q, v.1 = .inr q → XT K nL (Wc K T (c0 + v.2.2.2.1) (s0 + v.2.2.2.2) v.2.1 v.2.2.1) pc L rest q) (kk2 : ∀ r, v.1 = .inl r → XJ K nL (Wc K T (c0 + v.2.2.2.1) (s0 + v.2.2.2.2) v.2.1 v.2.2.1) (pc + 3) L (rest)) : XJ K nL (Wc K T c0 s0 g d) pc L (.ref x0 :: rest) := by
  have kk3 : ∀ w, xoV v.1 = .inl w → XJ K nL (Wc K T (c0 + v.2.2.2.1) (s0 + v.2.2.2.2) v.2.1 v.2.2.1) (pc + 3) L (w.toList ++ rest) := fun w h => by
    obtain ⟨r, e1, rfl⟩ := xoV_l h
    exact kk2 r e1
  have kx3 : ∀ q, xoV v.1 = .inr q → XT K nL (Wc K T (c0 + v.2.2.2.1) (s0 + v.2.2.2.2) v.2.1 v.2.2.1) pc L rest q := fun q h => kx q (xoV_r h)
  exact cx_callV (rest := rest) (o := xoV v.1) [] 0 rfl C B hta (by decide) (by decide) rfl dK hd (Nat.le_of_ble_eq_true rfl) hcs (lw_V q931 q933 qs6 q129 q934) (by decide +kernel) (met_X7_statue hf) rfl hW dd kx3 kk3
theorem k_X7_walker_X7 {K : KT} {T : CT} {c0 s0 c1 s1 dk : Nat} {cc : ByteArray} {nL pc : Nat} {L : List (Nat × Value)} {rest : List Value} {g : CG} {d : CD} {v : (XR Unit)} {n : Nat} {x0 : Nat} (C : Kok K cc nL RX7) (B : CB K T) (hta : ht g x0 = 6) (dK : kR K = rmC dk c1 s1) (hd : 11 + 1 ≤ dk) (hcs : c0 + v.2.2.2.1 ≤ c1 ∧ s0 + v.2.2.2.2 ≤ s1) (hf : f_X7_walker n x0 g d = some v) (hW : (rest.map fun v => v.category).sum ≤ 8) (dd : decode cc pc = .ok (.invokevirtual 126, 3)) (kx : ∀ q, v.1 = .inr q → XT K nL (Wc K T (c0 + v.2.2.2.1) (s0 + v.2.2.2.2) v.2.1 v.2.2.1) pc L rest q) (kk2 : ∀ r, v.1 = .inl r → XJ K nL (Wc K T (c0 + v.2.2.2.1) (s0 + v.2.2.2.2) v.2.1 v.2.2.1) (pc + 3) L (rest)) : XJ K nL (Wc K T c0 s0 g d) pc L (.ref x0 :: rest) := by
  have kk3 : ∀ w, xoV v.1 = .inl w → XJ K nL (Wc K T (c0 + v.2.2.2.1) (s0 + v.2.2.2.2) v.2.1 v.2.2.1) (pc + 3) L (w.toList ++ rest) := fun w h => by
    obtain ⟨r, e1, rfl⟩ := xoV_l h
    exact kk2 r e1
  have kx3 : ∀ q, xoV v.1 = .inr q → XT K nL (Wc K T (c0 + v.2.2.2.1) (s0 + v.2.2.2.2) v.2.1 v.2.2.1) pc L rest q := fun q h => kx q (xoV_r h)
  exact cx_callV (rest := rest) (o := xoV v.1) [] 0 rfl C B hta (by decide) (by decide) rfl dK hd (Nat.le_of_ble_eq_true rfl) hcs (lw_V q935 q937 qs7 q129 q938) (by decide +kernel) (met_X7_walker hf) rfl hW dd kx3 kk3
def f_X7_line_L162 (n : Nat) (x0 : Nat) (x2 : Int32) (x3 : Int32) (y0 : Nat) (y1 : Int32) (g : CG) (d : CD) : Option (XR Unit) := if ht g y0 = 6 then (f_X6_must y0 y1 (3 : Int32) g d).bind fun r2 => tick r2.2.2.2.1 r2.2.2.2.2 (xcase r2 fun r5 => if ht r2.2.1 x0 = 6 then (f_X6_next n r2.2.1 x0 r2.2.2.1).bind fun r7 => (hr r2.2.1 x0 8).bind fun p8 => if ht r2.2.1 p8 = 3 then (hr r2.2.1 p8 5).bind fun p10 => if ht r2.2.1 p10 = 100 then if inb x2 (hn r2.2.1 p10) = true then ev (wi r7 p10 (Int32.toNatClampNeg x2) ((hi r7 p10 (Int32.toNatClampNeg x2)) ||| ((1 : Int32) <<< (x3 &&& 31)))) fun da13 => if inb x3 (hn r2.2.1 p10) = true then ev (wi da13 p10 (Int32.toNatClampNeg x3) ((hi da13 p10 (Int32.toNatClampNeg x3)) ||| ((1 : Int32) <<< (x2 &&& 31)))) fun da15 => ev (wi da15 p8 18 ((hi da15 p8 18) + (1 : Int32))) fun da16 => some (.inl (), r2.2.1, da16, 0, 0) else none else none else none else none else none) else none
set_option maxHeartbeats 4000000 in
theorem w_X7_line_162 {K : KT} {T : CT} {r : (Unit ⊕ Nat)} {g9 : CG} {d9 : CD} {c1 s1 : Nat} (n : Nat) (C : Kok K cX7_line 4 RX7) (B : CB K T) (hrt : (kMe K).sig.returnType = none) (dK : kR K = rmC 12 c1 s1) (hQ : KQx K T (xoV r) c1 s1 g9 d9) (x0 : Nat) (x2 : Int32) (x3 : Int32) (y0 : Nat) (y1 : Int32) (g : CG) (d : CD) (c0 s0 k m9 : Nat) (hc : c1 = c0 + k) (hs : s1 = s0 + m9) (hf : f_X7_line_L162 n x0 x2 x3 y0 y1 g d = some (r, g9, d9, k, m9)) : XJ K 4 (Wc K T c0 s0 g d) 162 [(0, .ref x0), (2, .int x2), (3, .int x3)] [.int y1, .ref y0] := by
  unfold f_X7_line_L162 at hf
  refine x_iconst (3 : Int32) C dX7_line_162 (by decide) ?_
  obtain ⟨t1, hf⟩ := pf_ch hf
  obtain ⟨r2, er2, hf⟩ := pf_b hf
  obtain ⟨j3, i4, ej3, ei4, hf⟩ := pf_tk hf
  refine k_X6_must_X7 C B t1 dK (Nat.le_of_ble_eq_true rfl) (by omega) er2 (Nat.le_of_ble_eq_true rfl) dX7_line_163 (fun q eq => ?_) (fun r5 er5 => ?_)
  · obtain ⟨rfl, rfl, rfl, rfl, rfl⟩ := pf_xr eq hf
    exact c_csT (by omega) (by omega) (c_out C hQ)
  have hf := pf_xl er5 hf
  refine x_aload_n C dX7_line_166 0 rfl ?_
  obtain ⟨t6, hf⟩ := pf_ch hf
  obtain ⟨r7, er7, hf⟩ := pf_b hf
  refine k_X6_next_X7 C B t6 dK (Nat.le_of_ble_eq_true rfl) (by omega) er7 (Nat.le_of_ble_eq_true rfl) dX7_line_167 ?_
  refine x_aload_n C dX7_line_170 0 rfl ?_
  obtain ⟨p8, ep8, hf⟩ := pf_b hf
  refine cg6_8 C B t6 (flo C q488) fsm ep8 dX7_line_171 ?_
  obtain ⟨t9, hf⟩ := pf_ch hf
  obtain ⟨p10, ep10, hf⟩ := pf_b hf
  refine cg3_5 C B t9 (fln B q287) fsm ep10 dX7_line_174 ?_
  refine x_iload_n C dX7_line_177 1 rfl ?_
  refine x_dup2_11 C dX7_line_178 rfl rfl ?_
  obtain ⟨t11, hf⟩ := pf_ch hf
  obtain ⟨h12, hf⟩ := pf_in hf
  refine ca_ild C B t11 h12 dX7_line_179 ?_
  refine x_iconst (1 : Int32) C dX7_line_180 (by decide) ?_
  refine x_iload_n C dX7_line_181 2 rfl ?_
  refine x_ishl C dX7_line_182 ?_
  refine x_ior C dX7_line_183 ?_
  refine ca_ist C B t11 h12 dX7_line_184 ?_
  obtain ⟨da13, eda13, hf⟩ := pf_e hf
  refine c_ren eda13 ?_
  refine x_aload_n C dX7_line_185 0 rfl ?_
  refine cg6_8 C B t6 (flo C q488) fsm ep8 dX7_line_186 ?_
  refine cg3_5 C B t9 (fln B q287) fsm ep10 dX7_line_189 ?_
  refine x_iload_n C dX7_line_192 2 rfl ?_
  refine x_dup2_11 C dX7_line_193 rfl rfl ?_
  obtain ⟨h14, hf⟩ := pf_in hf
  refine ca_ild C B t11 h14 dX7_line_194 ?_
  refine x_iconst (1 : Int32) C dX7_line_195 (by decide) ?_
  refine x_iload_n C dX7_line_196 1 rfl ?_
  refine x_ishl C dX7_line_197 ?_
  refine x_ior C dX7_line_198 ?_
  refine ca_ist C B t11 h14 dX7_line_199 ?_
  obtain ⟨da15, eda15, hf⟩ := pf_e hf
  refine c_ren eda15 ?_
  refine x_aload_n C dX7_line_200 0 rfl ?_
  refine cg6_8 C B t6 (flo C q488) fsm ep8 dX7_line_201 ?_
  refine x_dup C dX7_line_204 rfl ?_
  refine cg3_18 C B t9 (fln B q327) fsm dX7_line_205 ?_
  refine x_iconst (1 : Int32) C dX7_line_208 (by decide) ?_
  refine x_iadd C dX7_line_209 ?_
  refine cp3_18 C B t9 (fln B q327) fsm dX7_line_210 ?_
  obtain ⟨da16, eda16, hf⟩ := pf_e hf
  refine c_ren eda16 ?_
  refine x_goto (tgt := 381) C dX7_line_213 (by decide) ?_
  obtain ⟨rfl, rfl, rfl, rfl, rfl⟩ := sr_inj hf
  refine c_cs (c0 := c1) (s0 := s1) (by omega) (by omega) ?_
  exact x_ret hQ (c_vret (K := kW K _) C hrt rfl dX7_line_381)
def f_X7_line_L325 (n : Nat) (x0 : Nat) (x3 : Int32) (y0 : Nat) (y1 : Int32) (g : CG) (d : CD) : Option (XR Unit) := if ht g y0 = 6 then (f_X6_must y0 y1 (3 : Int32) g d).bind fun r2 => tick r2.2.2.2.1 r2.2.2.2.2 (xcase r2 fun r5 => if ht r2.2.1 x0 = 6 then (f_X6_next n r2.2.1 x0 r2.2.2.1).bind fun r7 => (hr r2.2.1 x0 8).bind fun p8 => if ht r2.2.1 p8 = 3 then (hr r2.2.1 p8 14).bind fun p10 => (f_X6_number n x0 (0 : Int32) (12 : Int32) r2.2.1 r7).bind fun r11 => tick r11.2.2.2.1 r11.2.2.2.2 (xcase r11 fun r14 => if ht r11.2.1 p10 = 100 then if inb x3 (hn r11.2.1 p10) = true then ev (wi r11.2.2.1 p10 (Int32.toNatClampNeg x3) r14) fun da17 => if ht r11.2.1 x0 = 6 then (hr r11.2.1 x0 8).bind fun p19 => if ht r11.2.1 p19 = 3 then (hr r11.2.1 p19 16).bind fun p21 => if ht r11.2.1 p21 = 102 then if inb x3 (hn r11.2.1 p21) = true then ev (wi da17 p21 (Int32.toNatClampNeg x3) (vp_nar .boolean (1 : Int32))) fun da24 => some (.inl (), r11.2.1, da24, 0, 0) else none else none else none else none else none else none) else none else none) else none
set_option maxHeartbeats 4000000 in
theorem w_X7_line_325 {K : KT} {T : CT} {r : (Unit ⊕ Nat)} {g9 : CG} {d9 : CD} {c1 s1 : Nat} (n : Nat) (C : Kok K cX7_line 4 RX7) (B : CB K T) (hrt : (kMe K).sig.returnType = none) (dK : kR K = rmC 12 c1 s1) (hQ : KQx K T (xoV r) c1 s1 g9 d9) (x0 : Nat) (x3 : Int32) (y0 : Nat) (y1 : Int32) (g : CG) (d : CD) (c0 s0 k m9 : Nat) (hc : c1 = c0 + k) (hs : s1 = s0 + m9) (hf : f_X7_line_L325 n x0 x3 y0 y1 g d = some (r, g9, d9, k, m9)) : XJ K 4 (Wc K T c0 s0 g d) 325 [(0, .ref x0), (3, .int x3)] [.int y1, .ref y0] := by
  unfold f_X7_line_L325 at hf
  refine x_iconst (3 : Int32) C dX7_line_325 (by decide) ?_
  obtain ⟨t1, hf⟩ := pf_ch hf
  obtain ⟨r2, er2, hf⟩ := pf_b hf
  obtain ⟨j3, i4, ej3, ei4, hf⟩ := pf_tk hf
  refine k_X6_must_X7 C B t1 dK (Nat.le_of_ble_eq_true rfl) (by omega) er2 (Nat.le_of_ble_eq_true rfl) dX7_line_326 (fun q eq => ?_) (fun r5 er5 => ?_)
  · obtain ⟨rfl, rfl, rfl, rfl, rfl⟩ := pf_xr eq hf
    exact c_csT (by omega) (by omega) (c_out C hQ)
  have hf := pf_xl er5 hf
  refine x_aload_n C dX7_line_329 0 rfl ?_
  obtain ⟨t6, hf⟩ := pf_ch hf
  obtain ⟨r7, er7, hf⟩ := pf_b hf
  refine k_X6_next_X7 C B t6 dK (Nat.le_of_ble_eq_true rfl) (by omega) er7 (Nat.le_of_ble_eq_true rfl) dX7_line_330 ?_
  refine x_aload_n C dX7_line_333 0 rfl ?_
  obtain ⟨p8, ep8, hf⟩ := pf_b hf
  refine cg6_8 C B t6 (flo C q488) fsm ep8 dX7_line_334 ?_
  obtain ⟨t9, hf⟩ := pf_ch hf
  obtain ⟨p10, ep10, hf⟩ := pf_b hf
  refine cg3_14 C B t9 (fln B q316) fsm ep10 dX7_line_337 ?_
  refine x_iload_n C dX7_line_340 1 rfl ?_
  refine x_aload_n C dX7_line_341 0 rfl ?_
  refine x_iconst (0 : Int32) C dX7_line_342 (by decide) ?_
  refine x_bipush (12 : Int32) C dX7_line_343 (by decide) ?_
  obtain ⟨r11, er11, hf⟩ := pf_b hf
  obtain ⟨j12, i13, ej12, ei13, hf⟩ := pf_tk hf
  refine k_X6_number_X7 C B t6 dK (Nat.le_of_ble_eq_true rfl) (by omega) er11 (Nat.le_of_ble_eq_true rfl) dX7_line_345 (fun q eq => ?_) (fun r14 er14 => ?_)
  · obtain ⟨rfl, rfl, rfl, rfl, rfl⟩ := pf_xr eq hf
    exact c_csT (by omega) (by omega) (c_out C hQ)
  have hf := pf_xl er14 hf
  obtain ⟨t15, hf⟩ := pf_ch hf
  obtain ⟨h16, hf⟩ := pf_in hf
  refine ca_ist C B t15 h16 dX7_line_348 ?_
  obtain ⟨da17, eda17, hf⟩ := pf_e hf
  refine c_ren eda17 ?_
  refine x_aload_n C dX7_line_349 0 rfl ?_
  obtain ⟨t18, hf⟩ := pf_ch hf
  obtain ⟨p19, ep19, hf⟩ := pf_b hf
  refine cg6_8 C B t18 (flo C q488) fsm ep19 dX7_line_350 ?_
  obtain ⟨t20, hf⟩ := pf_ch hf
  obtain ⟨p21, ep21, hf⟩ := pf_b hf
  refine cg3_16 C B t20 (fln B q321) fsm ep21 dX7_line_353 ?_
  refine x_iload_n C dX7_line_356 1 rfl ?_
  refine x_iconst (1 : Int32) C dX7_line_357 (by decide) ?_
  obtain ⟨t22, hf⟩ := pf_ch hf
  obtain ⟨h23, hf⟩ := pf_in hf
  refine ca_zst C B t22 h23 dX7_line_358 ?_
  obtain ⟨da24, eda24, hf⟩ := pf_e hf
  refine c_ren eda24 ?_
  refine x_goto (tgt := 381) C dX7_line_359 (by decide) ?_
  obtain ⟨rfl, rfl, rfl, rfl, rfl⟩ := sr_inj hf
  refine c_cs (c0 := c1) (s0 := s1) (by omega) (by omega) ?_
  exact x_ret hQ (c_vret (K := kW K _) C hrt rfl dX7_line_381)
def f_X7_line (n : Nat) (x0 : Nat) (x1 : Int32) (g : CG) (d : CD) : Option (XR Unit) := if x1 = (0 : Int32) then (if ht g x0 = 6 then (hr g x0 8).bind fun p8 => if ht g p8 = 3 then (hr g p8 0).bind fun p10 => (f_X7_fresh n x0 g d).bind fun r11 => tick r11.2.2.2.1 r11.2.2.2.2 (xcase r11 fun r14 => if ht r11.2.1 p10 = 101 then if inb (hi d p8 17) (hn r11.2.1 p10) = true then ev (wl r11.2.2.1 p10 (Int32.toNatClampNeg (hi d p8 17)) r14) fun da17 => if ht r11.2.1 x0 = 6 then (hr r11.2.1 x0 8).bind fun p19 => if ht r11.2.1 p19 = 3 then (hr r11.2.1 p19 4).bind fun p21 => (f_X6_number n x0 (0 : Int32) (99 : Int32) r11.2.1 da17).bind fun r22 => tick r22.2.2.2.1 r22.2.2.2.2 (xcase r22 fun r25 => if ht r22.2.1 p21 = 100 then if inb (hi da17 p19 17) (hn r22.2.1 p21) = true then ev (wi r22.2.2.1 p21 (Int32.toNatClampNeg (hi da17 p19 17)) r25) fun da28 => if ht r22.2.1 x0 = 6 then (hr r22.2.1 x0 8).bind fun p30 => if ht r22.2.1 p30 = 3 then ev (wi da28 p30 17 ((hi da28 p30 17) + (1 : Int32))) fun da32 => some (.inl (), r22.2.1, da32, 0, 0) else none else none else none else none) else none else none else none else none) else none else none) else (if x1 = (1 : Int32) then (if ht g x0 = 6 then (hr g x0 8).bind fun p34 => if ht g p34 = 3 then (hr g p34 0).bind fun p36 => (f_X6_known n x0 p36 (hi d p34 17) g d).bind fun r37 => tick r37.2.2.2.1 r37.2.2.2.2 (xcase r37 fun r40 => if ht r37.2.1 x0 = 6 then (hr r37.2.1 x0 8).bind fun p42 => if ht r37.2.1 p42 = 3 then (hr r37.2.1 p42 0).bind fun p44 => (f_X6_look n x0 p44 (hi r37.2.2.1 p42 17) r37.2.1 r37.2.2.1).bind fun r45 => tick r45.2.2.2.1 r45.2.2.2.2 (xcase r45 fun r48 => if r40 = r48 then (f_X7_line_L162 n x0 r40 r48 x0 (0 : Int32) r45.2.1 r45.2.2.1) else (if ht r45.2.1 x0 = 6 then (hr r45.2.1 x0 8).bind fun p51 => if ht r45.2.1 p51 = 3 then (hr r45.2.1 p51 5).bind fun p53 => if ht r45.2.1 p53 = 100 then if inb r40 (hn r45.2.1 p53) = true then if (f_X1_has (hi r45.2.2.1 p53 (Int32.toNatClampNeg r40)) r48) = 0 then (f_X7_line_L162 n x0 r40 r48 x0 (1 : Int32) r45.2.1 r45.2.2.1) else (f_X7_line_L162 n x0 r40 r48 x0 (0 : Int32) r45.2.1 r45.2.2.1) else none else none else none else none)) else none else none) else none else none) else (if x1 = (2 : Int32) then (if ht g x0 = 6 then (hr g x0 8).bind fun p58 => if ht g p58 = 3 then (hr g p58 1).bind fun p60 => (f_X7_fresh n x0 g d).bind fun r61 => tick r61.2.2.2.1 r61.2.2.2.2 (xcase r61 fun r64 => if ht r61.2.1 p60 = 101 then if inb (hi d p58 19) (hn r61.2.1 p60) = true then ev (wl r61.2.2.1 p60 (Int32.toNatClampNeg (hi d p58 19)) r64) fun da67 => if ht r61.2.1 x0 = 6 then (hr r61.2.1 x0 8).bind fun p69 => if ht r61.2.1 p69 = 3 then ev (wi da67 p69 19 ((hi da67 p69 19) + (1 : Int32))) fun da71 => some (.inl (), r61.2.1, da71, 0, 0) else none else none else none else none) else none else none) else (if x1 = (3 : Int32) then (if ht g x0 = 6 then (f_X7_statue n x0 g d).bind fun r73 => tick r73.2.2.2.1 r73.2.2.2.2 (xcase r73 fun r76 => some (.inl (), r73.2.1, r73.2.2.1, 0, 0)) else none) else (if x1 = (4 : Int32) then (if ht g x0 = 6 then (f_X7_walker n x0 g d).bind fun r78 => tick r78.2.2.2.1 r78.2.2.2.2 (xcase r78 fun r81 => some (.inl (), r78.2.1, r78.2.2.1, 0, 0)) else none) else (if x1 = (5 : Int32) then (if ht g x0 = 6 then (hr g x0 8).bind fun p83 => if ht g p83 = 3 then (hr g p83 3).bind fun p85 => (f_X6_known n x0 p85 (hi d p83 21) g d).bind fun r86 => tick r86.2.2.2.1 r86.2.2.2.2 (xcase r86 fun r89 => if ht r86.2.1 x0 = 6 then (hr r86.2.1 x0 8).bind fun p91 => if ht r86.2.1 p91 = 3 then (hr r86.2.1 p91 1).bind fun p93 => (f_X6_look n x0 p93 (hi r86.2.2.1 p91 19) r86.2.1 r86.2.2.1).bind fun r94 => tick r94.2.2.2.1 r94.2.2.2.2 (xcase r94 fun r97 => ev (((5 : Int32) * r89) + r97) fun v98 => if ht r94.2.1 x0 = 6 then (hr r94.2.1 x0 8).bind fun p100 => if ht r94.2.1 p100 = 3 then (hr r94.2.1 p100 16).bind fun p102 => if ht r94.2.1 p102 = 102 then if inb v98 (hn r94.2.1 p102) = true then if (hi r94.2.2.1 p102 (Int32.toNatClampNeg v98)) = 0 then (f_X7_line_L325 n x0 v98 x0 (1 : Int32) r94.2.1 r94.2.2.1) else (f_X7_line_L325 n x0 v98 x0 (0 : Int32) r94.2.1 r94.2.2.1) else none else none else none else none) else none else none) else none else none) else (if ht g x0 = 6 then ev (wi d x0 9 (1 : Int32)) fun da107 => (hr g x0 8).bind fun p108 => (f_X6_number n x0 (1 : Int32) (9 : Int32) g da107).bind fun r109 => tick r109.2.2.2.1 r109.2.2.2.2 (xcase r109 fun r112 => if ht r109.2.1 p108 = 3 then ev (wi r109.2.2.1 p108 22 r112) fun da114 => some (.inl (), r109.2.1, da114, 0, 0) else none) else none))))))
set_option maxHeartbeats 4000000 in
theorem w_X7_line_E {K : KT} {T : CT} {r : (Unit ⊕ Nat)} {g9 : CG} {d9 : CD} {c1 s1 : Nat} (n : Nat) (C : Kok K cX7_line 4 RX7) (B : CB K T) (hrt : (kMe K).sig.returnType = none) (dK : kR K = rmC 12 c1 s1) (hQ : KQx K T (xoV r) c1 s1 g9 d9) (x0 : Nat) (x1 : Int32) (g : CG) (d : CD) (c0 s0 k m9 : Nat) (hc : c1 = c0 + k) (hs : s1 = s0 + m9) (hf : f_X7_line n x0 x1 g d = some (r, g9, d9, k, m9)) : XJ K 4 (Wc K T c0 s0 g d) 0 [(0, .ref x0), (1, .int x1)] [] := by
  unfold f_X7_line at hf
  refine x_iload_n C dX7_line_0 1 rfl ?_
  by_cases w1 : x1 = (0 : Int32)
  · have hf := pf_t w1 hf
    refine x_tableIn (off := 39) (tgt := 40) C dX7_line_1 (by rw [w1]; decide) (by rw [w1]; decide) (by rw [w1]; decide) (by decide) ?_
    refine x_aload_n C dX7_line_40 0 rfl ?_
    obtain ⟨t7, hf⟩ := pf_ch hf
    obtain ⟨p8, ep8, hf⟩ := pf_b hf
    refine cg6_8 C B t7 (flo C q488) fsm ep8 dX7_line_41 ?_
    obtain ⟨t9, hf⟩ := pf_ch hf
    obtain ⟨p10, ep10, hf⟩ := pf_b hf
    refine cg3_0 C B t9 (fln B q269) fsm ep10 dX7_line_44 ?_
    refine x_aload_n C dX7_line_47 0 rfl ?_
    refine cg6_8 C B t7 (flo C q488) fsm ep8 dX7_line_48 ?_
    refine cg3_17 C B t9 (fln B q323) fsm dX7_line_51 ?_
    refine x_aload_n C dX7_line_54 0 rfl ?_
    obtain ⟨r11, er11, hf⟩ := pf_b hf
    obtain ⟨j12, i13, ej12, ei13, hf⟩ := pf_tk hf
    refine k_X7_fresh_X7 C B t7 dK (Nat.le_of_ble_eq_true rfl) (by omega) er11 (Nat.le_of_ble_eq_true rfl) dX7_line_55 (fun q eq => ?_) (fun r14 er14 => ?_)
    · obtain ⟨rfl, rfl, rfl, rfl, rfl⟩ := pf_xr eq hf
      exact c_csT (by omega) (by omega) (c_out C hQ)
    have hf := pf_xl er14 hf
    obtain ⟨t15, hf⟩ := pf_ch hf
    obtain ⟨h16, hf⟩ := pf_in hf
    refine ca_lst C B t15 h16 dX7_line_58 ?_
    obtain ⟨da17, eda17, hf⟩ := pf_e hf
    refine c_ren eda17 ?_
    refine x_aload_n C dX7_line_59 0 rfl ?_
    obtain ⟨t18, hf⟩ := pf_ch hf
    obtain ⟨p19, ep19, hf⟩ := pf_b hf
    refine cg6_8 C B t18 (flo C q488) fsm ep19 dX7_line_60 ?_
    obtain ⟨t20, hf⟩ := pf_ch hf
    obtain ⟨p21, ep21, hf⟩ := pf_b hf
    refine cg3_4 C B t20 (fln B q283) fsm ep21 dX7_line_63 ?_
    refine x_aload_n C dX7_line_66 0 rfl ?_
    refine cg6_8 C B t18 (flo C q488) fsm ep19 dX7_line_67 ?_
    refine cg3_17 C B t20 (fln B q323) fsm dX7_line_70 ?_
    refine x_aload_n C dX7_line_73 0 rfl ?_
    refine x_iconst (0 : Int32) C dX7_line_74 (by decide) ?_
    refine x_bipush (99 : Int32) C dX7_line_75 (by decide) ?_
    obtain ⟨r22, er22, hf⟩ := pf_b hf
    obtain ⟨j23, i24, ej23, ei24, hf⟩ := pf_tk hf
    refine k_X6_number_X7 C B t18 dK (Nat.le_of_ble_eq_true rfl) (by omega) er22 (Nat.le_of_ble_eq_true rfl) dX7_line_77 (fun q eq => ?_) (fun r25 er25 => ?_)
    · obtain ⟨rfl, rfl, rfl, rfl, rfl⟩ := pf_xr eq hf
      exact c_csT (by omega) (by omega) (c_out C hQ)
    have hf := pf_xl er25 hf
    obtain ⟨t26, hf⟩ := pf_ch hf
    obtain ⟨h27, hf⟩ := pf_in hf
    refine ca_ist C B t26 h27 dX7_line_80 ?_
    obtain ⟨da28, eda28, hf⟩ := pf_e hf
    refine c_ren eda28 ?_
    refine x_aload_n C dX7_line_81 0 rfl ?_
    obtain ⟨t29, hf⟩ := pf_ch hf
    obtain ⟨p30, ep30, hf⟩ := pf_b hf
    refine cg6_8 C B t29 (flo C q488) fsm ep30 dX7_line_82 ?_
    refine x_dup C dX7_line_85 rfl ?_
    obtain ⟨t31, hf⟩ := pf_ch hf
    refine cg3_17 C B t31 (fln B q323) fsm dX7_line_86 ?_
    refine x_iconst (1 : Int32) C dX7_line_89 (by decide) ?_
    refine x_iadd C dX7_line_90 ?_
    refine cp3_17 C B t31 (fln B q323) fsm dX7_line_91 ?_
    obtain ⟨da32, eda32, hf⟩ := pf_e hf
    refine c_ren eda32 ?_
    refine x_goto (tgt := 381) C dX7_line_94 (by decide) ?_
    obtain ⟨rfl, rfl, rfl, rfl, rfl⟩ := sr_inj hf
    refine c_cs (c0 := c1) (s0 := s1) (by omega) (by omega) ?_
    exact x_ret hQ (c_vret (K := kW K _) C hrt rfl dX7_line_381)
  · have hf := pf_f w1 hf
    by_cases w2 : x1 = (1 : Int32)
    · have hf := pf_t w2 hf
      refine x_tableIn (off := 96) (tgt := 97) C dX7_line_1 (by rw [w2]; decide) (by rw [w2]; decide) (by rw [w2]; decide) (by decide) ?_
      refine x_aload_n C dX7_line_97 0 rfl ?_
      refine x_aload_n C dX7_line_98 0 rfl ?_
      obtain ⟨t33, hf⟩ := pf_ch hf
      obtain ⟨p34, ep34, hf⟩ := pf_b hf
      refine cg6_8 C B t33 (flo C q488) fsm ep34 dX7_line_99 ?_
      obtain ⟨t35, hf⟩ := pf_ch hf
      obtain ⟨p36, ep36, hf⟩ := pf_b hf
      refine cg3_0 C B t35 (fln B q269) fsm ep36 dX7_line_102 ?_
      refine x_aload_n C dX7_line_105 0 rfl ?_
      refine cg6_8 C B t33 (flo C q488) fsm ep34 dX7_line_106 ?_
      refine cg3_17 C B t35 (fln B q323) fsm dX7_line_109 ?_
      obtain ⟨r37, er37, hf⟩ := pf_b hf
      obtain ⟨j38, i39, ej38, ei39, hf⟩ := pf_tk hf
      refine k_X6_known_X7 C B t33 dK (Nat.le_of_ble_eq_true rfl) (by omega) er37 (Nat.le_of_ble_eq_true rfl) dX7_line_112 (fun q eq => ?_) (fun r40 er40 => ?_)
      · obtain ⟨rfl, rfl, rfl, rfl, rfl⟩ := pf_xr eq hf
        exact c_csT (by omega) (by omega) (c_out C hQ)
      have hf := pf_xl er40 hf
      refine x_istore_n (L' := [(0, .ref x0), (2, .int r40)]) C dX7_line_115 (Nat.le_of_ble_eq_true rfl) [1, 0] rfl ?_
      refine x_aload_n C dX7_line_116 0 rfl ?_
      refine x_aload_n C dX7_line_117 0 rfl ?_
      obtain ⟨t41, hf⟩ := pf_ch hf
      obtain ⟨p42, ep42, hf⟩ := pf_b hf
      refine cg6_8 C B t41 (flo C q488) fsm ep42 dX7_line_118 ?_
      obtain ⟨t43, hf⟩ := pf_ch hf
      obtain ⟨p44, ep44, hf⟩ := pf_b hf
      refine cg3_0 C B t43 (fln B q269) fsm ep44 dX7_line_121 ?_
      refine x_aload_n C dX7_line_124 0 rfl ?_
      refine cg6_8 C B t41 (flo C q488) fsm ep42 dX7_line_125 ?_
      refine cg3_17 C B t43 (fln B q323) fsm dX7_line_128 ?_
      obtain ⟨r45, er45, hf⟩ := pf_b hf
      obtain ⟨j46, i47, ej46, ei47, hf⟩ := pf_tk hf
      refine k_X6_look_X7 C B t41 dK (Nat.le_of_ble_eq_true rfl) (by omega) er45 (Nat.le_of_ble_eq_true rfl) dX7_line_131 (fun q eq => ?_) (fun r48 er48 => ?_)
      · obtain ⟨rfl, rfl, rfl, rfl, rfl⟩ := pf_xr eq hf
        exact c_csT (by omega) (by omega) (c_out C hQ)
      have hf := pf_xl er48 hf
      refine x_istore_n (L' := [(0, .ref x0), (2, .int r40), (3, .int r48)]) C dX7_line_134 (Nat.le_of_ble_eq_true rfl) [1, 2, 0] rfl ?_
      refine x_aload_n C dX7_line_135 0 rfl ?_
      refine x_iload_n C dX7_line_136 1 rfl ?_
      refine x_iload_n C dX7_line_137 2 rfl ?_
      refine x_icmp_eq (tgt := 161) C dX7_line_138 (by decide) (fun w49 => ?_) (fun w49 => ?_)
      · have hf := pf_t w49 hf
        refine x_iconst (0 : Int32) C dX7_line_161 (by decide) ?_
        exact w_X7_line_162 n C B hrt dK hQ x0 r40 r48 x0 (0 : Int32) _ _ _ _ _ _ (by omega) (by omega) hf
      · have hf := pf_f w49 hf
        refine x_aload_n C dX7_line_141 0 rfl ?_
        obtain ⟨t50, hf⟩ := pf_ch hf
        obtain ⟨p51, ep51, hf⟩ := pf_b hf
        refine cg6_8 C B t50 (flo C q488) fsm ep51 dX7_line_142 ?_
        obtain ⟨t52, hf⟩ := pf_ch hf
        obtain ⟨p53, ep53, hf⟩ := pf_b hf
        refine cg3_5 C B t52 (fln B q287) fsm ep53 dX7_line_145 ?_
        refine x_iload_n C dX7_line_148 1 rfl ?_
        obtain ⟨t54, hf⟩ := pf_ch hf
        obtain ⟨h55, hf⟩ := pf_in hf
        refine ca_ild C B t54 h55 dX7_line_149 ?_
        refine x_iload_n C dX7_line_150 2 rfl ?_
        refine k_X1_has_X7 C B dK (Nat.le_of_ble_eq_true rfl) (by omega) rfl (Nat.le_of_ble_eq_true rfl) dX7_line_151 ?_
        refine x_if_ne (tgt := 161) C dX7_line_154 (by decide) (fun w56 => ?_) (fun w56 => ?_)
        · have hf := pf_f w56 hf
          refine x_iconst (0 : Int32) C dX7_line_161 (by decide) ?_
          exact w_X7_line_162 n C B hrt dK hQ x0 r40 r48 x0 (0 : Int32) _ _ _ _ _ _ (by omega) (by omega) hf
        · have hf := pf_t w56 hf
          refine x_iconst (1 : Int32) C dX7_line_157 (by decide) ?_
          refine x_goto (tgt := 162) C dX7_line_158 (by decide) ?_
          exact w_X7_line_162 n C B hrt dK hQ x0 r40 r48 x0 (1 : Int32) _ _ _ _ _ _ (by omega) (by omega) hf
    · have hf := pf_f w2 hf
      by_cases w3 : x1 = (2 : Int32)
      · have hf := pf_t w3 hf
        refine x_tableIn (off := 215) (tgt := 216) C dX7_line_1 (by rw [w3]; decide) (by rw [w3]; decide) (by rw [w3]; decide) (by decide) ?_
        refine x_aload_n C dX7_line_216 0 rfl ?_
        obtain ⟨t57, hf⟩ := pf_ch hf
        obtain ⟨p58, ep58, hf⟩ := pf_b hf
        refine cg6_8 C B t57 (flo C q488) fsm ep58 dX7_line_217 ?_
        obtain ⟨t59, hf⟩ := pf_ch hf
        obtain ⟨p60, ep60, hf⟩ := pf_b hf
        refine cg3_1 C B t59 (fln B q274) fsm ep60 dX7_line_220 ?_
        refine x_aload_n C dX7_line_223 0 rfl ?_
        refine cg6_8 C B t57 (flo C q488) fsm ep58 dX7_line_224 ?_
        refine cg3_19 C B t59 (fln B q329) fsm dX7_line_227 ?_
        refine x_aload_n C dX7_line_230 0 rfl ?_
        obtain ⟨r61, er61, hf⟩ := pf_b hf
        obtain ⟨j62, i63, ej62, ei63, hf⟩ := pf_tk hf
        refine k_X7_fresh_X7 C B t57 dK (Nat.le_of_ble_eq_true rfl) (by omega) er61 (Nat.le_of_ble_eq_true rfl) dX7_line_231 (fun q eq => ?_) (fun r64 er64 => ?_)
        · obtain ⟨rfl, rfl, rfl, rfl, rfl⟩ := pf_xr eq hf
          exact c_csT (by omega) (by omega) (c_out C hQ)
        have hf := pf_xl er64 hf
        obtain ⟨t65, hf⟩ := pf_ch hf
        obtain ⟨h66, hf⟩ := pf_in hf
        refine ca_lst C B t65 h66 dX7_line_234 ?_
        obtain ⟨da67, eda67, hf⟩ := pf_e hf
        refine c_ren eda67 ?_
        refine x_aload_n C dX7_line_235 0 rfl ?_
        obtain ⟨t68, hf⟩ := pf_ch hf
        obtain ⟨p69, ep69, hf⟩ := pf_b hf
        refine cg6_8 C B t68 (flo C q488) fsm ep69 dX7_line_236 ?_
        refine x_dup C dX7_line_239 rfl ?_
        obtain ⟨t70, hf⟩ := pf_ch hf
        refine cg3_19 C B t70 (fln B q329) fsm dX7_line_240 ?_
        refine x_iconst (1 : Int32) C dX7_line_243 (by decide) ?_
        refine x_iadd C dX7_line_244 ?_
        refine cp3_19 C B t70 (fln B q329) fsm dX7_line_245 ?_
        obtain ⟨da71, eda71, hf⟩ := pf_e hf
        refine c_ren eda71 ?_
        refine x_goto (tgt := 381) C dX7_line_248 (by decide) ?_
        obtain ⟨rfl, rfl, rfl, rfl, rfl⟩ := sr_inj hf
        refine c_cs (c0 := c1) (s0 := s1) (by omega) (by omega) ?_
        exact x_ret hQ (c_vret (K := kW K _) C hrt rfl dX7_line_381)
      · have hf := pf_f w3 hf
        by_cases w4 : x1 = (3 : Int32)
        · have hf := pf_t w4 hf
          refine x_tableIn (off := 250) (tgt := 251) C dX7_line_1 (by rw [w4]; decide) (by rw [w4]; decide) (by rw [w4]; decide) (by decide) ?_
          refine x_aload_n C dX7_line_251 0 rfl ?_
          obtain ⟨t72, hf⟩ := pf_ch hf
          obtain ⟨r73, er73, hf⟩ := pf_b hf
          obtain ⟨j74, i75, ej74, ei75, hf⟩ := pf_tk hf
          refine k_X7_statue_X7 C B t72 dK (Nat.le_of_ble_eq_true rfl) (by omega) er73 (Nat.le_of_ble_eq_true rfl) dX7_line_252 (fun q eq => ?_) (fun r76 er76 => ?_)
          · obtain ⟨rfl, rfl, rfl, rfl, rfl⟩ := pf_xr eq hf
            exact c_csT (by omega) (by omega) (c_out C hQ)
          have hf := pf_xl er76 hf
          refine x_goto (tgt := 381) C dX7_line_255 (by decide) ?_
          obtain ⟨rfl, rfl, rfl, rfl, rfl⟩ := sr_inj hf
          refine c_cs (c0 := c1) (s0 := s1) (by omega) (by omega) ?_
          exact x_ret hQ (c_vret (K := kW K _) C hrt rfl dX7_line_381)
        · have hf := pf_f w4 hf
          by_cases w5 : x1 = (4 : Int32)
          · have hf := pf_t w5 hf
            refine x_tableIn (off := 257) (tgt := 258) C dX7_line_1 (by rw [w5]; decide) (by rw [w5]; decide) (by rw [w5]; decide) (by decide) ?_
            refine x_aload_n C dX7_line_258 0 rfl ?_
            obtain ⟨t77, hf⟩ := pf_ch hf
            obtain ⟨r78, er78, hf⟩ := pf_b hf
            obtain ⟨j79, i80, ej79, ei80, hf⟩ := pf_tk hf
            refine k_X7_walker_X7 C B t77 dK (Nat.le_of_ble_eq_true rfl) (by omega) er78 (Nat.le_of_ble_eq_true rfl) dX7_line_259 (fun q eq => ?_) (fun r81 er81 => ?_)
            · obtain ⟨rfl, rfl, rfl, rfl, rfl⟩ := pf_xr eq hf
              exact c_csT (by omega) (by omega) (c_out C hQ)
            have hf := pf_xl er81 hf
            refine x_goto (tgt := 381) C dX7_line_262 (by decide) ?_
            obtain ⟨rfl, rfl, rfl, rfl, rfl⟩ := sr_inj hf
            refine c_cs (c0 := c1) (s0 := s1) (by omega) (by omega) ?_
            exact x_ret hQ (c_vret (K := kW K _) C hrt rfl dX7_line_381)
          · have hf := pf_f w5 hf
            by_cases w6 : x1 = (5 : Int32)
            · have hf := pf_t w6 hf
              refine x_tableIn (off := 264) (tgt := 265) C dX7_line_1 (by rw [w6]; decide) (by rw [w6]; decide) (by rw [w6]; decide) (by decide) ?_
              refine x_aload_n C dX7_line_265 0 rfl ?_
              refine x_aload_n C dX7_line_266 0 rfl ?_
              obtain ⟨t82, hf⟩ := pf_ch hf
              obtain ⟨p83, ep83, hf⟩ := pf_b hf
              refine cg6_8 C B t82 (flo C q488) fsm ep83 dX7_line_267 ?_
              obtain ⟨t84, hf⟩ := pf_ch hf
              obtain ⟨p85, ep85, hf⟩ := pf_b hf
              refine cg3_3 C B t84 (fln B q281) fsm ep85 dX7_line_270 ?_
              refine x_aload_n C dX7_line_273 0 rfl ?_
              refine cg6_8 C B t82 (flo C q488) fsm ep83 dX7_line_274 ?_
              refine cg3_21 C B t84 (fln B q339) fsm dX7_line_277 ?_
              obtain ⟨r86, er86, hf⟩ := pf_b hf
              obtain ⟨j87, i88, ej87, ei88, hf⟩ := pf_tk hf
              refine k_X6_known_X7 C B t82 dK (Nat.le_of_ble_eq_true rfl) (by omega) er86 (Nat.le_of_ble_eq_true rfl) dX7_line_280 (fun q eq => ?_) (fun r89 er89 => ?_)
              · obtain ⟨rfl, rfl, rfl, rfl, rfl⟩ := pf_xr eq hf
                exact c_csT (by omega) (by omega) (c_out C hQ)
              have hf := pf_xl er89 hf
              refine x_istore_n (L' := [(0, .ref x0), (2, .int r89)]) C dX7_line_283 (Nat.le_of_ble_eq_true rfl) [1, 0] rfl ?_
              refine x_iconst (5 : Int32) C dX7_line_284 (by decide) ?_
              refine x_iload_n C dX7_line_285 1 rfl ?_
              refine x_imul C dX7_line_286 ?_
              refine x_aload_n C dX7_line_287 0 rfl ?_
              refine x_aload_n C dX7_line_288 0 rfl ?_
              obtain ⟨t90, hf⟩ := pf_ch hf
              obtain ⟨p91, ep91, hf⟩ := pf_b hf
              refine cg6_8 C B t90 (flo C q488) fsm ep91 dX7_line_289 ?_
              obtain ⟨t92, hf⟩ := pf_ch hf
              obtain ⟨p93, ep93, hf⟩ := pf_b hf
              refine cg3_1 C B t92 (fln B q274) fsm ep93 dX7_line_292 ?_
              refine x_aload_n C dX7_line_295 0 rfl ?_
              refine cg6_8 C B t90 (flo C q488) fsm ep91 dX7_line_296 ?_
              refine cg3_19 C B t92 (fln B q329) fsm dX7_line_299 ?_
              obtain ⟨r94, er94, hf⟩ := pf_b hf
              obtain ⟨j95, i96, ej95, ei96, hf⟩ := pf_tk hf
              refine k_X6_look_X7 C B t90 dK (Nat.le_of_ble_eq_true rfl) (by omega) er94 (Nat.le_of_ble_eq_true rfl) dX7_line_302 (fun q eq => ?_) (fun r97 er97 => ?_)
              · obtain ⟨rfl, rfl, rfl, rfl, rfl⟩ := pf_xr eq hf
                exact c_csT (by omega) (by omega) (c_out C hQ)
              have hf := pf_xl er97 hf
              refine x_iadd C dX7_line_305 ?_
              obtain ⟨v98, ev98, hf⟩ := pf_e hf
              refine x_topir ev98 ?_
              refine x_istore_n (L' := [(0, .ref x0), (3, .int v98)]) C dX7_line_306 (Nat.le_of_ble_eq_true rfl) [1, 0] rfl ?_
              refine x_aload_n C dX7_line_307 0 rfl ?_
              refine x_aload_n C dX7_line_308 0 rfl ?_
              obtain ⟨t99, hf⟩ := pf_ch hf
              obtain ⟨p100, ep100, hf⟩ := pf_b hf
              refine cg6_8 C B t99 (flo C q488) fsm ep100 dX7_line_309 ?_
              obtain ⟨t101, hf⟩ := pf_ch hf
              obtain ⟨p102, ep102, hf⟩ := pf_b hf
              refine cg3_16 C B t101 (fln B q321) fsm ep102 dX7_line_312 ?_
              refine x_iload_n C dX7_line_315 1 rfl ?_
              obtain ⟨t103, hf⟩ := pf_ch hf
              obtain ⟨h104, hf⟩ := pf_in hf
              refine ca_zld C B t103 h104 dX7_line_316 ?_
              refine x_if_ne (tgt := 324) C dX7_line_317 (by decide) (fun w105 => ?_) (fun w105 => ?_)
              · have hf := pf_f w105 hf
                refine x_iconst (0 : Int32) C dX7_line_324 (by decide) ?_
                exact w_X7_line_325 n C B hrt dK hQ x0 v98 x0 (0 : Int32) _ _ _ _ _ _ (by omega) (by omega) hf
              · have hf := pf_t w105 hf
                refine x_iconst (1 : Int32) C dX7_line_320 (by decide) ?_
                refine x_goto (tgt := 325) C dX7_line_321 (by decide) ?_
                exact w_X7_line_325 n C B hrt dK hQ x0 v98 x0 (1 : Int32) _ _ _ _ _ _ (by omega) (by omega) hf
            · have hf := pf_f w6 hf
              refine x_tableOut (tgt := 362) C dX7_line_1 (by have := lv_neT w1 (show (0 : Int32).toInt = (0 : Int) by decide); have := lv_neT w2 (show (1 : Int32).toInt = (1 : Int) by decide); have := lv_neT w3 (show (2 : Int32).toInt = (2 : Int) by decide); have := lv_neT w4 (show (3 : Int32).toInt = (3 : Int) by decide); have := lv_neT w5 (show (4 : Int32).toInt = (4 : Int) by decide); have := lv_neT w6 (show (5 : Int32).toInt = (5 : Int) by decide); omega) (by decide) ?_
              refine x_aload_n C dX7_line_362 0 rfl ?_
              refine x_iconst (1 : Int32) C dX7_line_363 (by decide) ?_
              obtain ⟨t106, hf⟩ := pf_ch hf
              refine cp6_9 C B t106 (flo C q489) fsm (Or.inr rfl) dX7_line_364 ?_
              obtain ⟨da107, eda107, hf⟩ := pf_e hf
              refine c_ren eda107 ?_
              refine x_aload_n C dX7_line_367 0 rfl ?_
              obtain ⟨p108, ep108, hf⟩ := pf_b hf
              refine cg6_8 C B t106 (flo C q488) fsm ep108 dX7_line_368 ?_
              refine x_aload_n C dX7_line_371 0 rfl ?_
              refine x_iconst (1 : Int32) C dX7_line_372 (by decide) ?_
              refine x_bipush (9 : Int32) C dX7_line_373 (by decide) ?_
              obtain ⟨r109, er109, hf⟩ := pf_b hf
              obtain ⟨j110, i111, ej110, ei111, hf⟩ := pf_tk hf
              refine k_X6_number_X7 C B t106 dK (Nat.le_of_ble_eq_true rfl) (by omega) er109 (Nat.le_of_ble_eq_true rfl) dX7_line_375 (fun q eq => ?_) (fun r112 er112 => ?_)
              · obtain ⟨rfl, rfl, rfl, rfl, rfl⟩ := pf_xr eq hf
                exact c_csT (by omega) (by omega) (c_out C hQ)
              have hf := pf_xl er112 hf
              obtain ⟨t113, hf⟩ := pf_ch hf
              refine cp3_22 C B t113 (fln B q343) fsm dX7_line_378 ?_
              obtain ⟨da114, eda114, hf⟩ := pf_e hf
              refine c_ren eda114 ?_
              obtain ⟨rfl, rfl, rfl, rfl, rfl⟩ := sr_inj hf
              refine c_cs (c0 := c1) (s0 := s1) (by omega) (by omega) ?_
              exact x_ret hQ (c_vret (K := kW K _) C hrt rfl dX7_line_381)
theorem met_X7_line {T : CT} {v : (XR Unit)} {n : Nat} {g : CG} {d : CD} {x0 : Nat} {x1 : Int32} {l : Launch}  (hf : f_X7_line n x0 x1 g d = some v) : vy_Met l yX7_line (ws_ yX7_line cX7_line 4 none) (rmC 12 v.2.2.2.1 v.2.2.2.2) (va_Pc [.ref x0, .int x1] (CU T g d)) (Qx T (xoV v.1) v.2.1 v.2.2.1) (Xx T (xoV v.1) v.2.1 v.2.2.1) v.2.2.2.1 v.2.2.2.2 (cA T) :=
  cx_met [.ref x0, .int x1] RX7 (by decide) rfl (Nat.le_of_ble_eq_true rfl) (fun K hl hR hrt C B hQ => w_X7_line_E n C B hrt hR hQ _ _ _ _ 0 0 _ _ (Nat.zero_add _).symm (Nat.zero_add _).symm hf)
theorem k_X7_isRoom_X7 {K : KT} {T : CT} {c0 s0 c1 s1 dk : Nat} {cc : ByteArray} {nL pc : Nat} {L : List (Nat × Value)} {rest : List Value} {g : CG} {d : CD} {v : Int32} {x0 : Nat} {x1 : Int32} (C : Kok K cc nL RX7) (B : CB K T) (hta : ht g x0 = 6) (dK : kR K = rmC dk c1 s1) (hd : 2 + 1 ≤ dk) (hcs : c0 + 0 ≤ c1 ∧ s0 + 0 ≤ s1) (hf : f_X7_isRoom g d x0 x1 = some v) (hW : (rest.map fun v => v.category).sum ≤ 8) (dd : decode cc pc = .ok (.invokevirtual 43, 3)) (kk2 : XJ K nL (Wc K T c0 s0 g d) (pc + 3) L ((.int v) :: rest)) : XJ K nL (Wc K T c0 s0 g d) pc L (.int x1 :: .ref x0 :: rest) :=
  c_callV (rest := rest) (v := (some (.int v))) [.int x1] 1 rfl C B hta (by decide) (by decide) rfl dK hd (Nat.le_of_ble_eq_true rfl) hcs (lw_V q873 q875 qs3 q129 q876) (by decide +kernel) (met_X7_isRoom hf) rfl hW dd kk2
theorem k_X7_line_X7 {K : KT} {T : CT} {c0 s0 c1 s1 dk : Nat} {cc : ByteArray} {nL pc : Nat} {L : List (Nat × Value)} {rest : List Value} {g : CG} {d : CD} {v : (XR Unit)} {n : Nat} {x0 : Nat} {x1 : Int32} (C : Kok K cc nL RX7) (B : CB K T) (hta : ht g x0 = 6) (dK : kR K = rmC dk c1 s1) (hd : 12 + 1 ≤ dk) (hcs : c0 + v.2.2.2.1 ≤ c1 ∧ s0 + v.2.2.2.2 ≤ s1) (hf : f_X7_line n x0 x1 g d = some v) (hW : (rest.map fun v => v.category).sum ≤ 8) (dd : decode cc pc = .ok (.invokevirtual 50, 3)) (kx : ∀ q, v.1 = .inr q → XT K nL (Wc K T (c0 + v.2.2.2.1) (s0 + v.2.2.2.2) v.2.1 v.2.2.1) pc L rest q) (kk2 : ∀ r, v.1 = .inl r → XJ K nL (Wc K T (c0 + v.2.2.2.1) (s0 + v.2.2.2.2) v.2.1 v.2.2.1) (pc + 3) L (rest)) : XJ K nL (Wc K T c0 s0 g d) pc L (.int x1 :: .ref x0 :: rest) := by
  have kk3 : ∀ w, xoV v.1 = .inl w → XJ K nL (Wc K T (c0 + v.2.2.2.1) (s0 + v.2.2.2.2) v.2.1 v.2.2.1) (pc + 3) L (w.toList ++ rest) := fun w h => by
    obtain ⟨r, e1, rfl⟩ := xoV_l h
    exact kk2 r e1
  have kx3 : ∀ q, xoV v.1 = .inr q → XT K nL (Wc K T (c0 + v.2.2.2.1) (s0 + v.2.2.2.2) v.2.1 v.2.2.1) pc L rest q := fun q h => kx q (xoV_r h)
  exact cx_callV (rest := rest) (o := xoV v.1) [.int x1] 1 rfl C B hta (by decide) (by decide) rfl dK hd (Nat.le_of_ble_eq_true rfl) hcs (lw_V q881 q883 qs4 q129 q884) (by decide +kernel) (met_X7_line hf) rfl hW dd kx3 kk3
theorem k_X6_sign_X7 {K : KT} {T : CT} {c0 s0 c1 s1 dk : Nat} {cc : ByteArray} {nL pc : Nat} {L : List (Nat × Value)} {rest : List Value} {g : CG} {d : CD} {v : (XR Unit)} {n : Nat} {x0 : Nat} {x1 : Int32} (C : Kok K cc nL RX7) (B : CB K T) (hta : ht g x0 = 6) (dK : kR K = rmC dk c1 s1) (hd : 6 + 1 ≤ dk) (hcs : c0 + v.2.2.2.1 ≤ c1 ∧ s0 + v.2.2.2.2 ≤ s1) (hf : f_X6_sign n x0 x1 g d = some v) (hW : (rest.map fun v => v.category).sum ≤ 8) (dd : decode cc pc = .ok (.invokevirtual 54, 3)) (kx : ∀ q, v.1 = .inr q → XT K nL (Wc K T (c0 + v.2.2.2.1) (s0 + v.2.2.2.2) v.2.1 v.2.2.1) pc L rest q) (kk2 : ∀ r, v.1 = .inl r → XJ K nL (Wc K T (c0 + v.2.2.2.1) (s0 + v.2.2.2.2) v.2.1 v.2.2.1) (pc + 3) L (rest)) : XJ K nL (Wc K T c0 s0 g d) pc L (.int x1 :: .ref x0 :: rest) := by
  have kk3 : ∀ w, xoV v.1 = .inl w → XJ K nL (Wc K T (c0 + v.2.2.2.1) (s0 + v.2.2.2.2) v.2.1 v.2.2.1) (pc + 3) L (w.toList ++ rest) := fun w h => by
    obtain ⟨r, e1, rfl⟩ := xoV_l h
    exact kk2 r e1
  have kx3 : ∀ q, xoV v.1 = .inr q → XT K nL (Wc K T (c0 + v.2.2.2.1) (s0 + v.2.2.2.2) v.2.1 v.2.2.1) pc L rest q := fun q h => kx q (xoV_r h)
  have e := hta
  · exact cx_callU (rest := rest) (o := xoV v.1) (x := ⟨"StatueRent$CityReader", "sign", "(I)V"⟩) (owner := "StatueRent$Reader") [.int x1] 1 rfl C B e (by decide) (by decide) rfl dK hd (Nat.le_of_ble_eq_true rfl) hcs q944 q939 q940 (C.2.2.2.2.1 _ q942) q943 q128 rfl (by decide +kernel) (met_X6_sign hf) rfl hW dd kx3 kk3
theorem k_X6_find_X7 {K : KT} {T : CT} {c0 s0 c1 s1 dk : Nat} {cc : ByteArray} {nL pc : Nat} {L : List (Nat × Value)} {rest : List Value} {g : CG} {d : CD} {v : Int32} {n : Nat} {x0 : Nat} {x1 : Nat} (C : Kok K cc nL RX7) (B : CB K T) (hta : ht g x0 = 6) (dK : kR K = rmC dk c1 s1) (hd : 7 + 1 ≤ dk) (hcs : c0 + 0 ≤ c1 ∧ s0 + 0 ≤ s1) (hf : f_X6_find n g d x0 x1 = some v) (hW : (rest.map fun v => v.category).sum ≤ 8) (dd : decode cc pc = .ok (.invokevirtual 35, 3)) (kk2 : XJ K nL (Wc K T c0 s0 g d) (pc + 3) L ((.int v) :: rest)) : XJ K nL (Wc K T c0 s0 g d) pc L (.ref x1 :: .ref x0 :: rest) := by
  have e := hta
  · exact c_callU (rest := rest) (v := (some (.int v))) (x := ⟨"StatueRent$CityReader", "find", "([Ljava/lang/String;)I"⟩) (owner := "StatueRent$Reader") [.ref x1] 1 rfl C B e (by decide) (by decide) rfl dK hd (Nat.le_of_ble_eq_true rfl) hcs q804 q799 q800 (C.2.2.2.2.1 _ q802) q803 q128 rfl (by decide +kernel) (met_X6_find hf) rfl hW dd kk2
theorem k_X6_begin_X7 {K : KT} {T : CT} {c0 s0 c1 s1 dk : Nat} {cc : ByteArray} {nL pc : Nat} {L : List (Nat × Value)} {rest : List Value} {g : CG} {d : CD} {v : CD} {n : Nat} {x0 : Nat} (C : Kok K cc nL RX7) (B : CB K T) (hta : ht g x0 = 6) (dK : kR K = rmC dk c1 s1) (hd : 6 + 1 ≤ dk) (hcs : c0 + 0 ≤ c1 ∧ s0 + 0 ≤ s1) (hf : f_X6_begin n g x0 d = some v) (hW : (rest.map fun v => v.category).sum ≤ 8) (dd : decode cc pc = .ok (.invokevirtual 23, 3)) (kk2 : XJ K nL (Wc K T c0 s0 g v) (pc + 3) L (rest)) : XJ K nL (Wc K T c0 s0 g d) pc L (.ref x0 :: rest) := by
  have e := hta
  · exact c_callU (rest := rest) (v := none) (x := ⟨"StatueRent$CityReader", "begin", "()V"⟩) (owner := "StatueRent$Reader") [] 0 rfl C B e (by decide) (by decide) rfl dK hd (Nat.le_of_ble_eq_true rfl) hcs q772 q767 q768 (C.2.2.2.2.1 _ q770) q771 q128 rfl (by decide +kernel) (met_X6_begin hf) rfl hW dd kk2
def f_X7_read_L69 (n : Nat) (k16 : Nat → Int32 → CG → CD → Option (XR Int32)) (x0 : Nat) (x2 : Int32) (x3 : Int32) (y0 : Nat) (y1 : Int32) (g : CG) (d : CD) : Option (XR Int32) := if ht g y0 = 6 then (f_X6_must y0 y1 (3 : Int32) g d).bind fun r2 => tick r2.2.2.2.1 r2.2.2.2.2 (xcase r2 fun r5 => if ht r2.2.1 x0 = 6 then (f_X7_isRoom r2.2.1 r2.2.2.1 x0 x3).bind fun r7 => (f_X6_must x0 r7 (4 : Int32) r2.2.1 r2.2.2.1).bind fun r8 => tick r8.2.2.2.1 r8.2.2.2.2 (xcase r8 fun r11 => if ht r8.2.1 x0 = 6 then (f_X6_next n r8.2.1 x0 r8.2.2.1).bind fun r13 => (f_X7_line n x0 x3 r8.2.1 r13).bind fun r14 => tick r14.2.2.2.1 r14.2.2.2.2 (xcase r14 fun r17 => if ht r14.2.1 x0 = 6 then (f_X6_sign n x0 (59 : Int32) r14.2.1 r14.2.2.1).bind fun r19 => tick r19.2.2.2.1 r19.2.2.2.2 (xcase r19 fun r22 => k16 x0 (x2 + (1 : Int32)) r19.2.1 r19.2.2.1) else none) else none) else none) else none
set_option maxHeartbeats 4000000 in
theorem w_X7_read_69 {K : KT} {T : CT} {r : (Int32 ⊕ Nat)} {g9 : CG} {d9 : CD} {c1 s1 : Nat} (n : Nat) (k16 : Nat → Int32 → CG → CD → Option (XR Int32)) (C : Kok K cX7_read 4 RX7) (B : CB K T) (hrt : (kMe K).sig.returnType = (some .int)) (dK : kR K = rmC 13 c1 s1) (hQ : KQx K T (xoI r) c1 s1 g9 d9)  (hk16 : ∀ (x0 : Nat) (x2 : Int32) (g : CG) (d : CD) (c0 s0 k m9 : Nat), c1 = c0 + k → s1 = s0 + m9 → k16 x0 x2 g d = some (r, g9, d9, k, m9) → XJ K 4 (Wc K T c0 s0 g d) 16 [(0, .ref x0), (2, .int x2)] []) (x0 : Nat) (x2 : Int32) (x3 : Int32) (y0 : Nat) (y1 : Int32) (g : CG) (d : CD) (c0 s0 k m9 : Nat) (hc : c1 = c0 + k) (hs : s1 = s0 + m9) (hf : f_X7_read_L69 n k16 x0 x2 x3 y0 y1 g d = some (r, g9, d9, k, m9)) : XJ K 4 (Wc K T c0 s0 g d) 69 [(0, .ref x0), (2, .int x2), (3, .int x3)] [.int y1, .ref y0] := by
  unfold f_X7_read_L69 at hf
  refine x_iconst (3 : Int32) C dX7_read_69 (by decide) ?_
  obtain ⟨t1, hf⟩ := pf_ch hf
  obtain ⟨r2, er2, hf⟩ := pf_b hf
  obtain ⟨j3, i4, ej3, ei4, hf⟩ := pf_tk hf
  refine k_X6_must_X7 C B t1 dK (Nat.le_of_ble_eq_true rfl) (by omega) er2 (Nat.le_of_ble_eq_true rfl) dX7_read_70 (fun q eq => ?_) (fun r5 er5 => ?_)
  · obtain ⟨rfl, rfl, rfl, rfl, rfl⟩ := pf_xr eq hf
    exact c_csT (by omega) (by omega) (c_out C hQ)
  have hf := pf_xl er5 hf
  refine x_aload_n C dX7_read_73 0 rfl ?_
  refine x_aload_n C dX7_read_74 0 rfl ?_
  refine x_iload_n C dX7_read_75 2 rfl ?_
  obtain ⟨t6, hf⟩ := pf_ch hf
  obtain ⟨r7, er7, hf⟩ := pf_b hf
  refine k_X7_isRoom_X7 C B t6 dK (Nat.le_of_ble_eq_true rfl) (by omega) er7 (Nat.le_of_ble_eq_true rfl) dX7_read_76 ?_
  refine x_iconst (4 : Int32) C dX7_read_79 (by decide) ?_
  obtain ⟨r8, er8, hf⟩ := pf_b hf
  obtain ⟨j9, i10, ej9, ei10, hf⟩ := pf_tk hf
  refine k_X6_must_X7 C B t6 dK (Nat.le_of_ble_eq_true rfl) (by omega) er8 (Nat.le_of_ble_eq_true rfl) dX7_read_80 (fun q eq => ?_) (fun r11 er11 => ?_)
  · obtain ⟨rfl, rfl, rfl, rfl, rfl⟩ := pf_xr eq hf
    exact c_csT (by omega) (by omega) (c_out C hQ)
  have hf := pf_xl er11 hf
  refine x_aload_n C dX7_read_83 0 rfl ?_
  obtain ⟨t12, hf⟩ := pf_ch hf
  obtain ⟨r13, er13, hf⟩ := pf_b hf
  refine k_X6_next_X7 C B t12 dK (Nat.le_of_ble_eq_true rfl) (by omega) er13 (Nat.le_of_ble_eq_true rfl) dX7_read_84 ?_
  refine x_aload_n C dX7_read_87 0 rfl ?_
  refine x_iload_n C dX7_read_88 2 rfl ?_
  obtain ⟨r14, er14, hf⟩ := pf_b hf
  obtain ⟨j15, i16, ej15, ei16, hf⟩ := pf_tk hf
  refine k_X7_line_X7 C B t12 dK (Nat.le_of_ble_eq_true rfl) (by omega) er14 (Nat.le_of_ble_eq_true rfl) dX7_read_89 (fun q eq => ?_) (fun r17 er17 => ?_)
  · obtain ⟨rfl, rfl, rfl, rfl, rfl⟩ := pf_xr eq hf
    exact c_csT (by omega) (by omega) (c_out C hQ)
  have hf := pf_xl er17 hf
  refine x_aload_n C dX7_read_92 0 rfl ?_
  refine x_bipush (59 : Int32) C dX7_read_93 (by decide) ?_
  obtain ⟨t18, hf⟩ := pf_ch hf
  obtain ⟨r19, er19, hf⟩ := pf_b hf
  obtain ⟨j20, i21, ej20, ei21, hf⟩ := pf_tk hf
  refine k_X6_sign_X7 C B t18 dK (Nat.le_of_ble_eq_true rfl) (by omega) er19 (Nat.le_of_ble_eq_true rfl) dX7_read_95 (fun q eq => ?_) (fun r22 er22 => ?_)
  · obtain ⟨rfl, rfl, rfl, rfl, rfl⟩ := pf_xr eq hf
    exact c_csT (by omega) (by omega) (c_out C hQ)
  have hf := pf_xl er22 hf
  refine x_inc (c := (1 : Int32)) (L' := [(0, .ref x0), (2, .int (x2 + (1 : Int32)))]) C dX7_read_98 1 rfl (by decide) (Nat.le_of_ble_eq_true rfl) [1, 0] rfl ?_
  refine x_goto (tgt := 16) C dX7_read_101 (by decide) ?_
  exact hk16 x0 (x2 + (1 : Int32)) _ _ _ _ _ _ (by omega) (by omega) hf
def f_X7_read_L46 (n : Nat) (k16 : Nat → Int32 → CG → CD → Option (XR Int32)) (x0 : Nat) (x2 : Int32) (x3 : Int32) (y0 : Nat) (y1 : Int32) (g : CG) (d : CD) : Option (XR Int32) := if ht g y0 = 6 then (f_X6_must y0 y1 (1 : Int32) g d).bind fun r2 => tick r2.2.2.2.1 r2.2.2.2.2 (xcase r2 fun r5 => if x3 = (6 : Int32) then (if ht r2.2.1 x0 = 6 then if (hi r2.2.2.1 x0 9) = 0 then (f_X7_read_L69 n k16 x0 x2 x3 x0 (1 : Int32) r2.2.1 r2.2.2.1) else (f_X7_read_L69 n k16 x0 x2 x3 x0 (0 : Int32) r2.2.1 r2.2.2.1) else none) else (f_X7_read_L69 n k16 x0 x2 x3 x0 (1 : Int32) r2.2.1 r2.2.2.1)) else none
set_option maxHeartbeats 4000000 in
theorem w_X7_read_46 {K : KT} {T : CT} {r : (Int32 ⊕ Nat)} {g9 : CG} {d9 : CD} {c1 s1 : Nat} (n : Nat) (k16 : Nat → Int32 → CG → CD → Option (XR Int32)) (C : Kok K cX7_read 4 RX7) (B : CB K T) (hrt : (kMe K).sig.returnType = (some .int)) (dK : kR K = rmC 13 c1 s1) (hQ : KQx K T (xoI r) c1 s1 g9 d9)  (hk16 : ∀ (x0 : Nat) (x2 : Int32) (g : CG) (d : CD) (c0 s0 k m9 : Nat), c1 = c0 + k → s1 = s0 + m9 → k16 x0 x2 g d = some (r, g9, d9, k, m9) → XJ K 4 (Wc K T c0 s0 g d) 16 [(0, .ref x0), (2, .int x2)] []) (x0 : Nat) (x2 : Int32) (x3 : Int32) (y0 : Nat) (y1 : Int32) (g : CG) (d : CD) (c0 s0 k m9 : Nat) (hc : c1 = c0 + k) (hs : s1 = s0 + m9) (hf : f_X7_read_L46 n k16 x0 x2 x3 y0 y1 g d = some (r, g9, d9, k, m9)) : XJ K 4 (Wc K T c0 s0 g d) 46 [(0, .ref x0), (2, .int x2), (3, .int x3)] [.int y1, .ref y0] := by
  unfold f_X7_read_L46 at hf
  refine x_iconst (1 : Int32) C dX7_read_46 (by decide) ?_
  obtain ⟨t1, hf⟩ := pf_ch hf
  obtain ⟨r2, er2, hf⟩ := pf_b hf
  obtain ⟨j3, i4, ej3, ei4, hf⟩ := pf_tk hf
  refine k_X6_must_X7 C B t1 dK (Nat.le_of_ble_eq_true rfl) (by omega) er2 (Nat.le_of_ble_eq_true rfl) dX7_read_47 (fun q eq => ?_) (fun r5 er5 => ?_)
  · obtain ⟨rfl, rfl, rfl, rfl, rfl⟩ := pf_xr eq hf
    exact c_csT (by omega) (by omega) (c_out C hQ)
  have hf := pf_xl er5 hf
  refine x_aload_n C dX7_read_50 0 rfl ?_
  refine x_iload_n C dX7_read_51 2 rfl ?_
  refine x_bipush (6 : Int32) C dX7_read_52 (by decide) ?_
  refine x_icmp_ne (tgt := 64) C dX7_read_54 (by decide) (fun w6 => ?_) (fun w6 => ?_)
  · have hf := pf_f w6 hf
    refine x_iconst (1 : Int32) C dX7_read_64 (by decide) ?_
    refine x_goto (tgt := 69) C dX7_read_65 (by decide) ?_
    exact w_X7_read_69 n _ C B hrt dK hQ hk16 x0 x2 x3 x0 (1 : Int32) _ _ _ _ _ _ (by omega) (by omega) hf
  · have hf := pf_t w6 hf
    refine x_aload_n C dX7_read_57 0 rfl ?_
    obtain ⟨t7, hf⟩ := pf_ch hf
    refine cg6_9 C B t7 (flo C q489) fsm dX7_read_58 ?_
    refine x_if_ne (tgt := 68) C dX7_read_61 (by decide) (fun w8 => ?_) (fun w8 => ?_)
    · have hf := pf_f w8 hf
      refine x_iconst (0 : Int32) C dX7_read_68 (by decide) ?_
      exact w_X7_read_69 n _ C B hrt dK hQ hk16 x0 x2 x3 x0 (0 : Int32) _ _ _ _ _ _ (by omega) (by omega) hf
    · have hf := pf_t w8 hf
      refine x_iconst (1 : Int32) C dX7_read_64 (by decide) ?_
      refine x_goto (tgt := 69) C dX7_read_65 (by decide) ?_
      exact w_X7_read_69 n _ C B hrt dK hQ hk16 x0 x2 x3 x0 (1 : Int32) _ _ _ _ _ _ (by omega) (by omega) hf
def f_X7_read_L16 (n : Nat) : Nat → Nat → Int32 → CG → CD → Option (XR Int32)
  | 0, _, _, _, _ => none
  | m + 1, x0, x2, g, d => if ht g x0 = 6 then if (hi d x0 3) = 0 then (some (.inl x2, g, d, 0, 0)) else ((hr g x0 10).bind fun p3 => if ht g p3 = 1 then (hr g p3 4).bind fun p5 => (f_X6_find n g d x0 p5).bind fun r6 => if r6 = (-1 : Int32) then (f_X7_read_L46 n (f_X7_read_L16 n m) x0 x2 r6 x0 (0 : Int32) g d) else (f_X7_read_L46 n (f_X7_read_L16 n m) x0 x2 r6 x0 (1 : Int32) g d) else none) else none
set_option maxHeartbeats 4000000 in
theorem w_X7_read_16 {K : KT} {T : CT} {r : (Int32 ⊕ Nat)} {g9 : CG} {d9 : CD} {c1 s1 : Nat} (n : Nat) (C : Kok K cX7_read 4 RX7) (B : CB K T) (hrt : (kMe K).sig.returnType = (some .int)) (dK : kR K = rmC 13 c1 s1) (hQ : KQx K T (xoI r) c1 s1 g9 d9) : ∀ (m : Nat) (x0 : Nat) (x2 : Int32) (g : CG) (d : CD) (c0 s0 k m9 : Nat) (hc : c1 = c0 + k) (hs : s1 = s0 + m9) (hf : f_X7_read_L16 n m x0 x2 g d = some (r, g9, d9, k, m9)), XJ K 4 (Wc K T c0 s0 g d) 16 [(0, .ref x0), (2, .int x2)] [] := by
  intro m
  induction m with
  | zero => intro x0 x2 g d c0 s0 k m9 hc hs hf; cases hf
  | succ m ih =>
    intro x0 x2 g d c0 s0 k m9 hc hs hf
    rw [f_X7_read_L16] at hf
    refine x_aload_n C dX7_read_16 0 rfl ?_
    obtain ⟨t1, hf⟩ := pf_ch hf
    refine cg6_3 C B t1 (flo C q496) (fsq C q497) dX7_read_17 ?_
    refine x_if_eq (tgt := 104) C dX7_read_20 (by decide) (fun w2 => ?_) (fun w2 => ?_)
    · have hf := pf_t w2 hf
      refine x_iload_n C dX7_read_104 1 rfl ?_
      obtain ⟨rfl, rfl, rfl, rfl, rfl⟩ := sr_inj hf
      refine c_cs (c0 := c1) (s0 := s1) (by omega) (by omega) ?_
      exact x_ret hQ (c_iret (K := kW K _) C hrt rfl dX7_read_105)
    · have hf := pf_f w2 hf
      refine x_aload_n C dX7_read_23 0 rfl ?_
      refine x_aload_n C dX7_read_24 0 rfl ?_
      obtain ⟨p3, ep3, hf⟩ := pf_b hf
      refine cg6_10 C B t1 (flo C q490) fsm ep3 dX7_read_25 ?_
      obtain ⟨t4, hf⟩ := pf_ch hf
      obtain ⟨p5, ep5, hf⟩ := pf_b hf
      refine cg1_4 C B t4 (fln B q617) fsm ep5 dX7_read_28 ?_
      obtain ⟨r6, er6, hf⟩ := pf_b hf
      refine k_X6_find_X7 C B t1 dK (Nat.le_of_ble_eq_true rfl) (by omega) er6 (Nat.le_of_ble_eq_true rfl) dX7_read_31 ?_
      refine x_istore_n (L' := [(0, .ref x0), (2, .int x2), (3, .int r6)]) C dX7_read_34 (Nat.le_of_ble_eq_true rfl) [1, 2, 0] rfl ?_
      refine x_aload_n C dX7_read_35 0 rfl ?_
      refine x_iload_n C dX7_read_36 2 rfl ?_
      refine x_iconst (-1 : Int32) C dX7_read_37 (by decide) ?_
      refine x_icmp_eq (tgt := 45) C dX7_read_38 (by decide) (fun w7 => ?_) (fun w7 => ?_)
      · have hf := pf_t w7 hf
        refine x_iconst (0 : Int32) C dX7_read_45 (by decide) ?_
        exact w_X7_read_46 n _ C B hrt dK hQ ih x0 x2 r6 x0 (0 : Int32) _ _ _ _ _ _ (by omega) (by omega) hf
      · have hf := pf_f w7 hf
        refine x_iconst (1 : Int32) C dX7_read_41 (by decide) ?_
        refine x_goto (tgt := 46) C dX7_read_42 (by decide) ?_
        exact w_X7_read_46 n _ C B hrt dK hQ ih x0 x2 r6 x0 (1 : Int32) _ _ _ _ _ _ (by omega) (by omega) hf
def f_X7_read (n : Nat) (x0 : Nat) (x1 : Nat) (g : CG) (d : CD) : Option (XR Int32) := if ht g x0 = 6 then ev (wr g x0 8 (some x1)) fun ga2 => if ht ga2 x0 = 6 then ev (wi d x0 9 (0 : Int32)) fun da4 => (f_X6_begin n ga2 x0 da4).bind fun r5 => f_X7_read_L16 n n x0 (0 : Int32) ga2 r5 else none else none
set_option maxHeartbeats 4000000 in
theorem w_X7_read_E {K : KT} {T : CT} {r : (Int32 ⊕ Nat)} {g9 : CG} {d9 : CD} {c1 s1 : Nat} (n : Nat) (C : Kok K cX7_read 4 RX7) (B : CB K T) (hrt : (kMe K).sig.returnType = (some .int)) (dK : kR K = rmC 13 c1 s1) (hQ : KQx K T (xoI r) c1 s1 g9 d9) (x0 : Nat) (x1 : Nat) (g : CG) (d : CD) (c0 s0 k m9 : Nat) (hc : c1 = c0 + k) (hs : s1 = s0 + m9) (hf : f_X7_read n x0 x1 g d = some (r, g9, d9, k, m9)) : XJ K 4 (Wc K T c0 s0 g d) 0 [(0, .ref x0), (1, .ref x1)] [] := by
  unfold f_X7_read at hf
  refine x_aload_n C dX7_read_0 0 rfl ?_
  refine x_aload_n C dX7_read_1 1 rfl ?_
  obtain ⟨t1, hf⟩ := pf_ch hf
  refine cpr6_8 C B t1 (flo C q488) fsm dX7_read_2 ?_
  obtain ⟨ga2, ega2, hf⟩ := pf_e hf
  refine c_renG ega2 ?_
  refine x_aload_n C dX7_read_5 0 rfl ?_
  refine x_iconst (0 : Int32) C dX7_read_6 (by decide) ?_
  obtain ⟨t3, hf⟩ := pf_ch hf
  refine cp6_9 C B t3 (flo C q489) fsm (Or.inl rfl) dX7_read_7 ?_
  obtain ⟨da4, eda4, hf⟩ := pf_e hf
  refine c_ren eda4 ?_
  refine x_iconst (0 : Int32) C dX7_read_10 (by decide) ?_
  refine x_istore_n (L' := [(0, .ref x0), (2, .int (0 : Int32))]) C dX7_read_11 (Nat.le_of_ble_eq_true rfl) [1, 0] rfl ?_
  refine x_aload_n C dX7_read_12 0 rfl ?_
  obtain ⟨r5, er5, hf⟩ := pf_b hf
  refine k_X6_begin_X7 C B t3 dK (Nat.le_of_ble_eq_true rfl) (by omega) er5 (Nat.le_of_ble_eq_true rfl) dX7_read_13 ?_
  exact w_X7_read_16 n C B hrt dK hQ n x0 (0 : Int32) _ _ _ _ _ _ (by omega) (by omega) hf
theorem met_X7_read {T : CT} {v : (XR Int32)} {n : Nat} {g : CG} {d : CD} {x0 : Nat} {x1 : Nat} {l : Launch}  (hf : f_X7_read n x0 x1 g d = some v) : vy_Met l yX7_read (ws_ yX7_read cX7_read 4 (some .int)) (rmC 13 v.2.2.2.1 v.2.2.2.2) (va_Pc [.ref x0, .ref x1] (CU T g d)) (Qx T (xoI v.1) v.2.1 v.2.2.1) (Xx T (xoI v.1) v.2.1 v.2.2.1) v.2.2.2.1 v.2.2.2.2 (cA T) :=
  cx_met [.ref x0, .ref x1] RX7 (by decide) rfl (Nat.le_of_ble_eq_true rfl) (fun K hl hR hrt C B hQ => w_X7_read_E n C B hrt hR hQ _ _ _ _ 0 0 _ _ (Nat.zero_add _).symm (Nat.zero_add _).symm hf)
