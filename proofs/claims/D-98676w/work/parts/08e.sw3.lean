set_option maxRecDepth 100000
theorem k_X6_wrong_X6 {K : KT} {T : CT} {c0 s0 c1 s1 dk : Nat} {cc : ByteArray} {nL pc : Nat} {L : List (Nat × Value)} {rest : List Value} {g : CG} {d : CD} {v : (Nat × CD)} {x0 : Nat} {x1 : Int32} (C : Kok K cc nL RX6) (B : CB K T) (hta : rdT (ht g x0) = true) (dK : kR K = rmC dk c1 s1) (hd : 2 + 1 ≤ dk) (hcs : c0 + 0 ≤ c1 ∧ s0 + 0 ≤ s1) (hf : f_X6_wrong g x0 x1 d = some v) (hW : (rest.map fun v => v.category).sum ≤ 8) (dd : decode cc pc = .ok (.invokevirtual 103, 3)) (kk2 : XJ K nL (Wc K T c0 s0 g v.2) (pc + 3) L ((.ref v.1) :: rest)) : XJ K nL (Wc K T c0 s0 g d) pc L (.int x1 :: .ref x0 :: rest) := by
  rcases rdT_or hta with e | e | e
  · exact c_callU (rest := rest) (v := (some (.ref v.1))) (x := ⟨"StatueRent$Reader", "wrong", "(I)LStatueRent$Fault;"⟩) (owner := "StatueRent$Reader") [.int x1] 1 rfl C B e (by decide) (by decide) rfl dK hd (Nat.le_of_ble_eq_true rfl) hcs q872 q866 q868 (C.2.2.2.2.1 _ q869) q867 q128 rfl (by decide +kernel) (met_X6_wrong hf) rfl hW dd kk2
  · exact c_callU (rest := rest) (v := (some (.ref v.1))) (x := ⟨"StatueRent$Reader", "wrong", "(I)LStatueRent$Fault;"⟩) (owner := "StatueRent$Reader") [.int x1] 1 rfl C B e (by decide) (by decide) rfl dK hd (Nat.le_of_ble_eq_true rfl) hcs q872 q866 q868 (C.2.2.2.2.1 _ q870) q867 q128 rfl (by decide +kernel) (met_X6_wrong hf) rfl hW dd kk2
  · exact c_callU (rest := rest) (v := (some (.ref v.1))) (x := ⟨"StatueRent$Reader", "wrong", "(I)LStatueRent$Fault;"⟩) (owner := "StatueRent$Reader") [.int x1] 1 rfl C B e (by decide) (by decide) rfl dK hd (Nat.le_of_ble_eq_true rfl) hcs q872 q866 q868 (C.2.2.2.2.1 _ q871) q867 q128 rfl (by decide +kernel) (met_X6_wrong hf) rfl hW dd kk2
def f_X6_must (x0 : Nat) (x1 : Int32) (x2 : Int32) (g : CG) (d : CD) : Option (XR Unit) := if x1 = 0 then (if rdT (ht g x0) = true then (f_X6_wrong g x0 x2 d).bind fun r3 => if ht g r3.1 = 2 then some (.inr r3.1, g, r3.2, 0, 0) else none else none) else (some (.inl (), g, d, 0, 0))
set_option maxHeartbeats 4000000 in
theorem w_X6_must_E {K : KT} {T : CT} {r : (Unit ⊕ Nat)} {g9 : CG} {d9 : CD} {c1 s1 : Nat} (C : Kok K cX6_must 3 RX6) (B : CB K T) (hrt : (kMe K).sig.returnType = none) (dK : kR K = rmC 3 c1 s1) (hQ : KQx K T (xoV r) c1 s1 g9 d9) (x0 : Nat) (x1 : Int32) (x2 : Int32) (g : CG) (d : CD) (c0 s0 k m9 : Nat) (hc : c1 = c0 + k) (hs : s1 = s0 + m9) (hf : f_X6_must x0 x1 x2 g d = some (r, g9, d9, k, m9)) : XJ K 3 (Wc K T c0 s0 g d) 0 [(0, .ref x0), (1, .int x1), (2, .int x2)] [] := by
  unfold f_X6_must at hf
  refine x_iload_n C dX6_must_0 1 rfl ?_
  refine x_if_ne (tgt := 10) C dX6_must_1 (by decide) (fun w1 => ?_) (fun w1 => ?_)
  · have hf := pf_f w1 hf
    obtain ⟨rfl, rfl, rfl, rfl, rfl⟩ := sr_inj hf
    refine c_cs (c0 := c1) (s0 := s1) (by omega) (by omega) ?_
    exact x_ret hQ (c_vret (K := kW K _) C hrt rfl dX6_must_10)
  · have hf := pf_t w1 hf
    refine x_aload_n C dX6_must_4 0 rfl ?_
    refine x_iload_n C dX6_must_5 2 rfl ?_
    obtain ⟨t2, hf⟩ := pf_ch hf
    obtain ⟨r3, er3, hf⟩ := pf_b hf
    refine k_X6_wrong_X6 C B t2 dK (Nat.le_of_ble_eq_true rfl) (by omega) er3 (Nat.le_of_ble_eq_true rfl) dX6_must_6 ?_
    obtain ⟨t4, hf⟩ := pf_ch hf
    obtain ⟨rfl, rfl, rfl, rfl, rfl⟩ := sr_inj hf
    refine c_cs (c0 := c1) (s0 := s1) (by omega) (by omega) ?_
    exact c_athrow C B t4 dX6_must_9 (c_out C hQ)
theorem met_X6_must {T : CT} {v : (XR Unit)} {g : CG} {d : CD} {x0 : Nat} {x1 : Int32} {x2 : Int32} {l : Launch}  (hf : f_X6_must x0 x1 x2 g d = some v) : vy_Met l yX6_must (ws_ yX6_must cX6_must 3 none) (rmC 3 v.2.2.2.1 v.2.2.2.2) (va_Pc [.ref x0, .int x1, .int x2] (CU T g d)) (Qx T (xoV v.1) v.2.1 v.2.2.1) (Xx T (xoV v.1) v.2.1 v.2.2.1) v.2.2.2.1 v.2.2.2.2 (cA T) :=
  cx_met [.ref x0, .int x1, .int x2] RX6 (by decide) rfl (Nat.le_of_ble_eq_true rfl) (fun K hl hR hrt C B hQ => w_X6_must_E C B hrt hR hQ _ _ _ _ _ 0 0 _ _ (Nat.zero_add _).symm (Nat.zero_add _).symm hf)
theorem k_X6_is_2_X6 {K : KT} {T : CT} {c0 s0 c1 s1 dk : Nat} {cc : ByteArray} {nL pc : Nat} {L : List (Nat × Value)} {rest : List Value} {g : CG} {d : CD} {v : Int32} {x0 : Nat} {x1 : Int32} (C : Kok K cc nL RX6) (B : CB K T) (hta : rdT (ht g x0) = true) (dK : kR K = rmC dk c1 s1) (hd : 2 + 1 ≤ dk) (hcs : c0 + 0 ≤ c1 ∧ s0 + 0 ≤ s1) (hf : f_X6_is_2 g d x0 x1 = some v) (hW : (rest.map fun v => v.category).sum ≤ 8) (dd : decode cc pc = .ok (.invokevirtual 107, 3)) (kk2 : XJ K nL (Wc K T c0 s0 g d) (pc + 3) L ((.int v) :: rest)) : XJ K nL (Wc K T c0 s0 g d) pc L (.int x1 :: .ref x0 :: rest) := by
  rcases rdT_or hta with e | e | e
  · exact c_callU (rest := rest) (v := (some (.int v))) (x := ⟨"StatueRent$Reader", "is", "(I)Z"⟩) (owner := "StatueRent$Reader") [.int x1] 1 rfl C B e (by decide) (by decide) rfl dK hd (Nat.le_of_ble_eq_true rfl) hcs q951 q945 q947 (C.2.2.2.2.1 _ q948) q946 q128 rfl (by decide +kernel) (met_X6_is_2 hf) rfl hW dd kk2
  · exact c_callU (rest := rest) (v := (some (.int v))) (x := ⟨"StatueRent$Reader", "is", "(I)Z"⟩) (owner := "StatueRent$Reader") [.int x1] 1 rfl C B e (by decide) (by decide) rfl dK hd (Nat.le_of_ble_eq_true rfl) hcs q951 q945 q947 (C.2.2.2.2.1 _ q949) q946 q128 rfl (by decide +kernel) (met_X6_is_2 hf) rfl hW dd kk2
  · exact c_callU (rest := rest) (v := (some (.int v))) (x := ⟨"StatueRent$Reader", "is", "(I)Z"⟩) (owner := "StatueRent$Reader") [.int x1] 1 rfl C B e (by decide) (by decide) rfl dK hd (Nat.le_of_ble_eq_true rfl) hcs q951 q945 q947 (C.2.2.2.2.1 _ q950) q946 q128 rfl (by decide +kernel) (met_X6_is_2 hf) rfl hW dd kk2
theorem k_X6_must_X6 {K : KT} {T : CT} {c0 s0 c1 s1 dk : Nat} {cc : ByteArray} {nL pc : Nat} {L : List (Nat × Value)} {rest : List Value} {g : CG} {d : CD} {v : (XR Unit)} {x0 : Nat} {x1 : Int32} {x2 : Int32} (C : Kok K cc nL RX6) (B : CB K T) (hta : rdT (ht g x0) = true) (dK : kR K = rmC dk c1 s1) (hd : 3 + 1 ≤ dk) (hcs : c0 + v.2.2.2.1 ≤ c1 ∧ s0 + v.2.2.2.2 ≤ s1) (hf : f_X6_must x0 x1 x2 g d = some v) (hW : (rest.map fun v => v.category).sum ≤ 8) (dd : decode cc pc = .ok (.invokevirtual 109, 3)) (kx : ∀ q, v.1 = .inr q → XT K nL (Wc K T (c0 + v.2.2.2.1) (s0 + v.2.2.2.2) v.2.1 v.2.2.1) pc L rest q) (kk2 : ∀ r, v.1 = .inl r → XJ K nL (Wc K T (c0 + v.2.2.2.1) (s0 + v.2.2.2.2) v.2.1 v.2.2.1) (pc + 3) L (rest)) : XJ K nL (Wc K T c0 s0 g d) pc L (.int x2 :: .int x1 :: .ref x0 :: rest) := by
  have kk3 : ∀ w, xoV v.1 = .inl w → XJ K nL (Wc K T (c0 + v.2.2.2.1) (s0 + v.2.2.2.2) v.2.1 v.2.2.1) (pc + 3) L (w.toList ++ rest) := fun w h => by
    obtain ⟨r, e1, rfl⟩ := xoV_l h
    exact kk2 r e1
  have kx3 : ∀ q, xoV v.1 = .inr q → XT K nL (Wc K T (c0 + v.2.2.2.1) (s0 + v.2.2.2.2) v.2.1 v.2.2.1) pc L rest q := fun q h => kx q (xoV_r h)
  rcases rdT_or hta with e | e | e
  · exact cx_callU (rest := rest) (o := xoV v.1) (x := ⟨"StatueRent$Reader", "must", "(ZI)V"⟩) (owner := "StatueRent$Reader") [.int x1, .int x2] 2 rfl C B e (by decide) (by decide) rfl dK hd (Nat.le_of_ble_eq_true rfl) hcs q865 q908 q2522 (C.2.2.2.2.1 _ q2523) q864 q128 rfl (by decide +kernel) (met_X6_must hf) rfl hW dd kx3 kk3
  · exact cx_callU (rest := rest) (o := xoV v.1) (x := ⟨"StatueRent$Reader", "must", "(ZI)V"⟩) (owner := "StatueRent$Reader") [.int x1, .int x2] 2 rfl C B e (by decide) (by decide) rfl dK hd (Nat.le_of_ble_eq_true rfl) hcs q865 q908 q2522 (C.2.2.2.2.1 _ q2524) q864 q128 rfl (by decide +kernel) (met_X6_must hf) rfl hW dd kx3 kk3
  · exact cx_callU (rest := rest) (o := xoV v.1) (x := ⟨"StatueRent$Reader", "must", "(ZI)V"⟩) (owner := "StatueRent$Reader") [.int x1, .int x2] 2 rfl C B e (by decide) (by decide) rfl dK hd (Nat.le_of_ble_eq_true rfl) hcs q865 q908 q2522 (C.2.2.2.2.1 _ q2525) q864 q128 rfl (by decide +kernel) (met_X6_must hf) rfl hW dd kx3 kk3
def f_X6_sign (n : Nat) (x0 : Nat) (x1 : Int32) (g : CG) (d : CD) : Option (XR Unit) := if rdT (ht g x0) = true then (f_X6_is_2 g d x0 x1).bind fun r2 => (f_X6_must x0 r2 (1 : Int32) g d).bind fun r3 => tick r3.2.2.2.1 r3.2.2.2.2 (xcase r3 fun r6 => if rdT (ht r3.2.1 x0) = true then (f_X6_next n r3.2.1 x0 r3.2.2.1).bind fun r8 => some (.inl (), r3.2.1, r8, 0, 0) else none) else none
set_option maxHeartbeats 4000000 in
theorem w_X6_sign_E {K : KT} {T : CT} {r : (Unit ⊕ Nat)} {g9 : CG} {d9 : CD} {c1 s1 : Nat} (n : Nat) (C : Kok K cX6_sign 2 RX6) (B : CB K T) (hrt : (kMe K).sig.returnType = none) (dK : kR K = rmC 6 c1 s1) (hQ : KQx K T (xoV r) c1 s1 g9 d9) (x0 : Nat) (x1 : Int32) (g : CG) (d : CD) (c0 s0 k m9 : Nat) (hc : c1 = c0 + k) (hs : s1 = s0 + m9) (hf : f_X6_sign n x0 x1 g d = some (r, g9, d9, k, m9)) : XJ K 2 (Wc K T c0 s0 g d) 0 [(0, .ref x0), (1, .int x1)] [] := by
  unfold f_X6_sign at hf
  refine x_aload_n C dX6_sign_0 0 rfl ?_
  refine x_aload_n C dX6_sign_1 0 rfl ?_
  refine x_iload_n C dX6_sign_2 1 rfl ?_
  obtain ⟨t1, hf⟩ := pf_ch hf
  obtain ⟨r2, er2, hf⟩ := pf_b hf
  refine k_X6_is_2_X6 C B t1 dK (Nat.le_of_ble_eq_true rfl) (by omega) er2 (Nat.le_of_ble_eq_true rfl) dX6_sign_3 ?_
  refine x_iconst (1 : Int32) C dX6_sign_6 (by decide) ?_
  obtain ⟨r3, er3, hf⟩ := pf_b hf
  obtain ⟨j4, i5, ej4, ei5, hf⟩ := pf_tk hf
  refine k_X6_must_X6 C B t1 dK (Nat.le_of_ble_eq_true rfl) (by omega) er3 (Nat.le_of_ble_eq_true rfl) dX6_sign_7 (fun q eq => ?_) (fun r6 er6 => ?_)
  · obtain ⟨rfl, rfl, rfl, rfl, rfl⟩ := pf_xr eq hf
    exact c_csT (by omega) (by omega) (c_out C hQ)
  have hf := pf_xl er6 hf
  refine x_aload_n C dX6_sign_10 0 rfl ?_
  obtain ⟨t7, hf⟩ := pf_ch hf
  obtain ⟨r8, er8, hf⟩ := pf_b hf
  refine k_X6_next_X6 C B t7 dK (Nat.le_of_ble_eq_true rfl) (by omega) er8 (Nat.le_of_ble_eq_true rfl) dX6_sign_11 ?_
  obtain ⟨rfl, rfl, rfl, rfl, rfl⟩ := sr_inj hf
  refine c_cs (c0 := c1) (s0 := s1) (by omega) (by omega) ?_
  exact x_ret hQ (c_vret (K := kW K _) C hrt rfl dX6_sign_14)
theorem met_X6_sign {T : CT} {v : (XR Unit)} {n : Nat} {g : CG} {d : CD} {x0 : Nat} {x1 : Int32} {l : Launch}  (hf : f_X6_sign n x0 x1 g d = some v) : vy_Met l yX6_sign (ws_ yX6_sign cX6_sign 2 none) (rmC 6 v.2.2.2.1 v.2.2.2.2) (va_Pc [.ref x0, .int x1] (CU T g d)) (Qx T (xoV v.1) v.2.1 v.2.2.1) (Xx T (xoV v.1) v.2.1 v.2.2.1) v.2.2.2.1 v.2.2.2.2 (cA T) :=
  cx_met [.ref x0, .int x1] RX6 (by decide) rfl (Nat.le_of_ble_eq_true rfl) (fun K hl hR hrt C B hQ => w_X6_sign_E n C B hrt hR hQ _ _ _ _ 0 0 _ _ (Nat.zero_add _).symm (Nat.zero_add _).symm hf)
def f_X6_number_L14 (n : Nat) (x0 : Nat) (x1 : Int32) (x2 : Int32) (y0 : Nat) (y1 : Int32) (g : CG) (d : CD) : Option (XR Int32) := if rdT (ht g y0) = true then (f_X6_must y0 y1 (1 : Int32) g d).bind fun r2 => tick r2.2.2.2.1 r2.2.2.2.2 (xcase r2 fun r5 => if rdT (ht r2.2.1 x0) = true then (f_X6_must x0 (f_X1_isIn (hi r2.2.2.1 x0 4) x1 x2) (2 : Int32) r2.2.1 r2.2.2.1).bind fun r7 => tick r7.2.2.2.1 r7.2.2.2.2 (xcase r7 fun r10 => if rdT (ht r7.2.1 x0) = true then ev (hi r7.2.2.1 x0 4) fun v12 => (f_X6_next n r7.2.1 x0 r7.2.2.1).bind fun r13 => some (.inl v12, r7.2.1, r13, 0, 0) else none) else none) else none
set_option maxHeartbeats 4000000 in
theorem w_X6_number_14 {K : KT} {T : CT} {r : (Int32 ⊕ Nat)} {g9 : CG} {d9 : CD} {c1 s1 : Nat} (n : Nat) (C : Kok K cX6_number 4 RX6) (B : CB K T) (hrt : (kMe K).sig.returnType = (some .int)) (dK : kR K = rmC 6 c1 s1) (hQ : KQx K T (xoI r) c1 s1 g9 d9) (x0 : Nat) (x1 : Int32) (x2 : Int32) (y0 : Nat) (y1 : Int32) (g : CG) (d : CD) (c0 s0 k m9 : Nat) (hc : c1 = c0 + k) (hs : s1 = s0 + m9) (hf : f_X6_number_L14 n x0 x1 x2 y0 y1 g d = some (r, g9, d9, k, m9)) : XJ K 4 (Wc K T c0 s0 g d) 14 [(0, .ref x0), (1, .int x1), (2, .int x2)] [.int y1, .ref y0] := by
  unfold f_X6_number_L14 at hf
  refine x_iconst (1 : Int32) C dX6_number_14 (by decide) ?_
  obtain ⟨t1, hf⟩ := pf_ch hf
  obtain ⟨r2, er2, hf⟩ := pf_b hf
  obtain ⟨j3, i4, ej3, ei4, hf⟩ := pf_tk hf
  refine k_X6_must_X6 C B t1 dK (Nat.le_of_ble_eq_true rfl) (by omega) er2 (Nat.le_of_ble_eq_true rfl) dX6_number_15 (fun q eq => ?_) (fun r5 er5 => ?_)
  · obtain ⟨rfl, rfl, rfl, rfl, rfl⟩ := pf_xr eq hf
    exact c_csT (by omega) (by omega) (c_out C hQ)
  have hf := pf_xl er5 hf
  refine x_aload_n C dX6_number_18 0 rfl ?_
  refine x_aload_n C dX6_number_19 0 rfl ?_
  obtain ⟨t6, hf⟩ := pf_ch hf
  refine cgR_4 C B t6 (flo C q503) fsm dX6_number_20 ?_
  refine x_iload_n C dX6_number_23 1 rfl ?_
  refine x_iload_n C dX6_number_24 2 rfl ?_
  refine k_X1_isIn_X6 C B dK (Nat.le_of_ble_eq_true rfl) (by omega) rfl (Nat.le_of_ble_eq_true rfl) dX6_number_25 ?_
  refine x_iconst (2 : Int32) C dX6_number_28 (by decide) ?_
  obtain ⟨r7, er7, hf⟩ := pf_b hf
  obtain ⟨j8, i9, ej8, ei9, hf⟩ := pf_tk hf
  refine k_X6_must_X6 C B t6 dK (Nat.le_of_ble_eq_true rfl) (by omega) er7 (Nat.le_of_ble_eq_true rfl) dX6_number_29 (fun q eq => ?_) (fun r10 er10 => ?_)
  · obtain ⟨rfl, rfl, rfl, rfl, rfl⟩ := pf_xr eq hf
    exact c_csT (by omega) (by omega) (c_out C hQ)
  have hf := pf_xl er10 hf
  refine x_aload_n C dX6_number_32 0 rfl ?_
  obtain ⟨t11, hf⟩ := pf_ch hf
  refine cgR_4 C B t11 (flo C q503) fsm dX6_number_33 ?_
  obtain ⟨v12, ev12, hf⟩ := pf_e hf
  refine x_topir ev12 ?_
  refine x_istore_n (L' := [(0, .ref x0), (3, .int v12)]) C dX6_number_36 (Nat.le_of_ble_eq_true rfl) [1, 0] rfl ?_
  refine x_aload_n C dX6_number_37 0 rfl ?_
  obtain ⟨r13, er13, hf⟩ := pf_b hf
  refine k_X6_next_X6 C B t11 dK (Nat.le_of_ble_eq_true rfl) (by omega) er13 (Nat.le_of_ble_eq_true rfl) dX6_number_38 ?_
  refine x_iload_n C dX6_number_41 1 rfl ?_
  obtain ⟨rfl, rfl, rfl, rfl, rfl⟩ := sr_inj hf
  refine c_cs (c0 := c1) (s0 := s1) (by omega) (by omega) ?_
  exact x_ret hQ (c_iret (K := kW K _) C hrt rfl dX6_number_42)
def f_X6_number (n : Nat) (x0 : Nat) (x1 : Int32) (x2 : Int32) (g : CG) (d : CD) : Option (XR Int32) := if rdT (ht g x0) = true then if (hi d x0 3) = (2 : Int32) then (f_X6_number_L14 n x0 x1 x2 x0 (1 : Int32) g d) else (f_X6_number_L14 n x0 x1 x2 x0 (0 : Int32) g d) else none
set_option maxHeartbeats 4000000 in
theorem w_X6_number_E {K : KT} {T : CT} {r : (Int32 ⊕ Nat)} {g9 : CG} {d9 : CD} {c1 s1 : Nat} (n : Nat) (C : Kok K cX6_number 4 RX6) (B : CB K T) (hrt : (kMe K).sig.returnType = (some .int)) (dK : kR K = rmC 6 c1 s1) (hQ : KQx K T (xoI r) c1 s1 g9 d9) (x0 : Nat) (x1 : Int32) (x2 : Int32) (g : CG) (d : CD) (c0 s0 k m9 : Nat) (hc : c1 = c0 + k) (hs : s1 = s0 + m9) (hf : f_X6_number n x0 x1 x2 g d = some (r, g9, d9, k, m9)) : XJ K 4 (Wc K T c0 s0 g d) 0 [(0, .ref x0), (1, .int x1), (2, .int x2)] [] := by
  unfold f_X6_number at hf
  refine x_aload_n C dX6_number_0 0 rfl ?_
  refine x_aload_n C dX6_number_1 0 rfl ?_
  obtain ⟨t1, hf⟩ := pf_ch hf
  refine cgR_3 C B t1 (flo C q500) fsm dX6_number_2 ?_
  refine x_iconst (2 : Int32) C dX6_number_5 (by decide) ?_
  refine x_icmp_ne (tgt := 13) C dX6_number_6 (by decide) (fun w2 => ?_) (fun w2 => ?_)
  · have hf := pf_f w2 hf
    refine x_iconst (0 : Int32) C dX6_number_13 (by decide) ?_
    exact w_X6_number_14 n C B hrt dK hQ x0 x1 x2 x0 (0 : Int32) _ _ _ _ _ _ (by omega) (by omega) hf
  · have hf := pf_t w2 hf
    refine x_iconst (1 : Int32) C dX6_number_9 (by decide) ?_
    refine x_goto (tgt := 14) C dX6_number_10 (by decide) ?_
    exact w_X6_number_14 n C B hrt dK hQ x0 x1 x2 x0 (1 : Int32) _ _ _ _ _ _ (by omega) (by omega) hf
theorem met_X6_number {T : CT} {v : (XR Int32)} {n : Nat} {g : CG} {d : CD} {x0 : Nat} {x1 : Int32} {x2 : Int32} {l : Launch}  (hf : f_X6_number n x0 x1 x2 g d = some v) : vy_Met l yX6_number (ws_ yX6_number cX6_number 4 (some .int)) (rmC 6 v.2.2.2.1 v.2.2.2.2) (va_Pc [.ref x0, .int x1, .int x2] (CU T g d)) (Qx T (xoI v.1) v.2.1 v.2.2.1) (Xx T (xoI v.1) v.2.1 v.2.2.1) v.2.2.2.1 v.2.2.2.2 (cA T) :=
  cx_met [.ref x0, .int x1, .int x2] RX6 (by decide) rfl (Nat.le_of_ble_eq_true rfl) (fun K hl hR hrt C B hQ => w_X6_number_E n C B hrt hR hQ _ _ _ _ _ 0 0 _ _ (Nat.zero_add _).symm (Nat.zero_add _).symm hf)
theorem k_X6_isName_X6 {K : KT} {T : CT} {c0 s0 c1 s1 dk : Nat} {cc : ByteArray} {nL pc : Nat} {L : List (Nat × Value)} {rest : List Value} {g : CG} {d : CD} {v : Int32} {n : Nat} {x0 : Nat} (C : Kok K cc nL RX6) (B : CB K T) (hta : rdT (ht g x0) = true) (dK : kR K = rmC dk c1 s1) (hd : 8 + 1 ≤ dk) (hcs : c0 + 0 ≤ c1 ∧ s0 + 0 ≤ s1) (hf : f_X6_isName n g d x0 = some v) (hW : (rest.map fun v => v.category).sum ≤ 8) (dd : decode cc pc = .ok (.invokevirtual 113, 3)) (kk2 : XJ K nL (Wc K T c0 s0 g d) (pc + 3) L ((.int v) :: rest)) : XJ K nL (Wc K T c0 s0 g d) pc L (.ref x0 :: rest) := by
  rcases rdT_or hta with e | e | e
  · exact c_callU (rest := rest) (v := (some (.int v))) (x := ⟨"StatueRent$Reader", "isName", "()Z"⟩) (owner := "StatueRent$Reader") [] 0 rfl C B e (by decide) (by decide) rfl dK hd (Nat.le_of_ble_eq_true rfl) hcs q894 q922 q2526 (C.2.2.2.2.1 _ q2527) q893 q128 rfl (by decide +kernel) (met_X6_isName hf) rfl hW dd kk2
  · exact c_callU (rest := rest) (v := (some (.int v))) (x := ⟨"StatueRent$Reader", "isName", "()Z"⟩) (owner := "StatueRent$Reader") [] 0 rfl C B e (by decide) (by decide) rfl dK hd (Nat.le_of_ble_eq_true rfl) hcs q894 q922 q2526 (C.2.2.2.2.1 _ q2528) q893 q128 rfl (by decide +kernel) (met_X6_isName hf) rfl hW dd kk2
  · exact c_callU (rest := rest) (v := (some (.int v))) (x := ⟨"StatueRent$Reader", "isName", "()Z"⟩) (owner := "StatueRent$Reader") [] 0 rfl C B e (by decide) (by decide) rfl dK hd (Nat.le_of_ble_eq_true rfl) hcs q894 q922 q2526 (C.2.2.2.2.1 _ q2529) q893 q128 rfl (by decide +kernel) (met_X6_isName hf) rfl hW dd kk2
theorem k_X6_of_X6 {K : KT} {T : CT} {c0 s0 c1 s1 dk : Nat} {cc : ByteArray} {nL pc : Nat} {L : List (Nat × Value)} {rest : List Value} {g : CG} {d : CD} {v : Int32} {n : Nat} {x0 : Nat} {x1 : Nat} {x2 : Int32} (C : Kok K cc nL RX6) (B : CB K T) (hta : rdT (ht g x0) = true) (dK : kR K = rmC dk c1 s1) (hd : 2 + 1 ≤ dk) (hcs : c0 + 0 ≤ c1 ∧ s0 + 0 ≤ s1) (hf : f_X6_of n g d x0 x1 x2 = some v) (hW : (rest.map fun v => v.category).sum ≤ 8) (dd : decode cc pc = .ok (.invokevirtual 117, 3)) (kk2 : XJ K nL (Wc K T c0 s0 g d) (pc + 3) L ((.int v) :: rest)) : XJ K nL (Wc K T c0 s0 g d) pc L (.int x2 :: .ref x1 :: .ref x0 :: rest) := by
  rcases rdT_or hta with e | e | e
  · exact c_callU (rest := rest) (v := (some (.int v))) (x := ⟨"StatueRent$Reader", "of", "([JI)I"⟩) (owner := "StatueRent$Reader") [.ref x1, .int x2] 2 rfl C B e (by decide) (by decide) rfl dK hd (Nat.le_of_ble_eq_true rfl) hcs q901 q923 q2530 (C.2.2.2.2.1 _ q2531) q900 q128 rfl (by decide +kernel) (met_X6_of hf) rfl hW dd kk2
  · exact c_callU (rest := rest) (v := (some (.int v))) (x := ⟨"StatueRent$Reader", "of", "([JI)I"⟩) (owner := "StatueRent$Reader") [.ref x1, .int x2] 2 rfl C B e (by decide) (by decide) rfl dK hd (Nat.le_of_ble_eq_true rfl) hcs q901 q923 q2530 (C.2.2.2.2.1 _ q2532) q900 q128 rfl (by decide +kernel) (met_X6_of hf) rfl hW dd kk2
  · exact c_callU (rest := rest) (v := (some (.int v))) (x := ⟨"StatueRent$Reader", "of", "([JI)I"⟩) (owner := "StatueRent$Reader") [.ref x1, .int x2] 2 rfl C B e (by decide) (by decide) rfl dK hd (Nat.le_of_ble_eq_true rfl) hcs q901 q923 q2530 (C.2.2.2.2.1 _ q2533) q900 q128 rfl (by decide +kernel) (met_X6_of hf) rfl hW dd kk2
def f_X6_look (n : Nat) (x0 : Nat) (x1 : Nat) (x2 : Int32) (g : CG) (d : CD) : Option (XR Int32) := if rdT (ht g x0) = true then (f_X6_isName n g d x0).bind fun r2 => (f_X6_must x0 r2 (1 : Int32) g d).bind fun r3 => tick r3.2.2.2.1 r3.2.2.2.2 (xcase r3 fun r6 => if rdT (ht r3.2.1 x0) = true then (f_X6_of n r3.2.1 r3.2.2.1 x0 x1 x2).bind fun r8 => if r8 = (-1 : Int32) then ((f_X6_must x0 (0 : Int32) (3 : Int32) r3.2.1 r3.2.2.1).bind fun r10 => tick r10.2.2.2.1 r10.2.2.2.2 (xcase r10 fun r13 => some (.inl r8, r10.2.1, r10.2.2.1, 0, 0))) else ((f_X6_must x0 (1 : Int32) (3 : Int32) r3.2.1 r3.2.2.1).bind fun r14 => tick r14.2.2.2.1 r14.2.2.2.2 (xcase r14 fun r17 => some (.inl r8, r14.2.1, r14.2.2.1, 0, 0))) else none) else none
set_option maxHeartbeats 4000000 in
theorem w_X6_look_E {K : KT} {T : CT} {r : (Int32 ⊕ Nat)} {g9 : CG} {d9 : CD} {c1 s1 : Nat} (n : Nat) (C : Kok K cX6_look 4 RX6) (B : CB K T) (hrt : (kMe K).sig.returnType = (some .int)) (dK : kR K = rmC 9 c1 s1) (hQ : KQx K T (xoI r) c1 s1 g9 d9) (x0 : Nat) (x1 : Nat) (x2 : Int32) (g : CG) (d : CD) (c0 s0 k m9 : Nat) (hc : c1 = c0 + k) (hs : s1 = s0 + m9) (hf : f_X6_look n x0 x1 x2 g d = some (r, g9, d9, k, m9)) : XJ K 4 (Wc K T c0 s0 g d) 0 [(0, .ref x0), (1, .ref x1), (2, .int x2)] [] := by
  unfold f_X6_look at hf
  refine x_aload_n C dX6_look_0 0 rfl ?_
  refine x_aload_n C dX6_look_1 0 rfl ?_
  obtain ⟨t1, hf⟩ := pf_ch hf
  obtain ⟨r2, er2, hf⟩ := pf_b hf
  refine k_X6_isName_X6 C B t1 dK (Nat.le_of_ble_eq_true rfl) (by omega) er2 (Nat.le_of_ble_eq_true rfl) dX6_look_2 ?_
  refine x_iconst (1 : Int32) C dX6_look_5 (by decide) ?_
  obtain ⟨r3, er3, hf⟩ := pf_b hf
  obtain ⟨j4, i5, ej4, ei5, hf⟩ := pf_tk hf
  refine k_X6_must_X6 C B t1 dK (Nat.le_of_ble_eq_true rfl) (by omega) er3 (Nat.le_of_ble_eq_true rfl) dX6_look_6 (fun q eq => ?_) (fun r6 er6 => ?_)
  · obtain ⟨rfl, rfl, rfl, rfl, rfl⟩ := pf_xr eq hf
    exact c_csT (by omega) (by omega) (c_out C hQ)
  have hf := pf_xl er6 hf
  refine x_aload_n C dX6_look_9 0 rfl ?_
  refine x_aload_n C dX6_look_10 1 rfl ?_
  refine x_iload_n C dX6_look_11 2 rfl ?_
  obtain ⟨t7, hf⟩ := pf_ch hf
  obtain ⟨r8, er8, hf⟩ := pf_b hf
  refine k_X6_of_X6 C B t7 dK (Nat.le_of_ble_eq_true rfl) (by omega) er8 (Nat.le_of_ble_eq_true rfl) dX6_look_12 ?_
  refine x_istore_n (L' := [(0, .ref x0), (3, .int r8)]) C dX6_look_15 (Nat.le_of_ble_eq_true rfl) [1, 0] rfl ?_
  refine x_aload_n C dX6_look_16 0 rfl ?_
  refine x_iload_n C dX6_look_17 1 rfl ?_
  refine x_iconst (-1 : Int32) C dX6_look_18 (by decide) ?_
  refine x_icmp_eq (tgt := 26) C dX6_look_19 (by decide) (fun w9 => ?_) (fun w9 => ?_)
  · have hf := pf_t w9 hf
    refine x_iconst (0 : Int32) C dX6_look_26 (by decide) ?_
    refine x_iconst (3 : Int32) C dX6_look_27 (by decide) ?_
    obtain ⟨r10, er10, hf⟩ := pf_b hf
    obtain ⟨j11, i12, ej11, ei12, hf⟩ := pf_tk hf
    refine k_X6_must_X6 C B t7 dK (Nat.le_of_ble_eq_true rfl) (by omega) er10 (Nat.le_of_ble_eq_true rfl) dX6_look_28 (fun q eq => ?_) (fun r13 er13 => ?_)
    · obtain ⟨rfl, rfl, rfl, rfl, rfl⟩ := pf_xr eq hf
      exact c_csT (by omega) (by omega) (c_out C hQ)
    have hf := pf_xl er13 hf
    refine x_iload_n C dX6_look_31 1 rfl ?_
    obtain ⟨rfl, rfl, rfl, rfl, rfl⟩ := sr_inj hf
    refine c_cs (c0 := c1) (s0 := s1) (by omega) (by omega) ?_
    exact x_ret hQ (c_iret (K := kW K _) C hrt rfl dX6_look_32)
  · have hf := pf_f w9 hf
    refine x_iconst (1 : Int32) C dX6_look_22 (by decide) ?_
    refine x_goto (tgt := 27) C dX6_look_23 (by decide) ?_
    refine x_iconst (3 : Int32) C dX6_look_27 (by decide) ?_
    obtain ⟨r14, er14, hf⟩ := pf_b hf
    obtain ⟨j15, i16, ej15, ei16, hf⟩ := pf_tk hf
    refine k_X6_must_X6 C B t7 dK (Nat.le_of_ble_eq_true rfl) (by omega) er14 (Nat.le_of_ble_eq_true rfl) dX6_look_28 (fun q eq => ?_) (fun r17 er17 => ?_)
    · obtain ⟨rfl, rfl, rfl, rfl, rfl⟩ := pf_xr eq hf
      exact c_csT (by omega) (by omega) (c_out C hQ)
    have hf := pf_xl er17 hf
    refine x_iload_n C dX6_look_31 1 rfl ?_
    obtain ⟨rfl, rfl, rfl, rfl, rfl⟩ := sr_inj hf
    refine c_cs (c0 := c1) (s0 := s1) (by omega) (by omega) ?_
    exact x_ret hQ (c_iret (K := kW K _) C hrt rfl dX6_look_32)
theorem met_X6_look {T : CT} {v : (XR Int32)} {n : Nat} {g : CG} {d : CD} {x0 : Nat} {x1 : Nat} {x2 : Int32} {l : Launch}  (hf : f_X6_look n x0 x1 x2 g d = some v) : vy_Met l yX6_look (ws_ yX6_look cX6_look 4 (some .int)) (rmC 9 v.2.2.2.1 v.2.2.2.2) (va_Pc [.ref x0, .ref x1, .int x2] (CU T g d)) (Qx T (xoI v.1) v.2.1 v.2.2.1) (Xx T (xoI v.1) v.2.1 v.2.2.1) v.2.2.2.1 v.2.2.2.2 (cA T) :=
  cx_met [.ref x0, .ref x1, .int x2] RX6 (by decide) rfl (Nat.le_of_ble_eq_true rfl) (fun K hl hR hrt C B hQ => w_X6_look_E n C B hrt hR hQ _ _ _ _ _ 0 0 _ _ (Nat.zero_add _).symm (Nat.zero_add _).symm hf)
theorem k_X6_look_X6 {K : KT} {T : CT} {c0 s0 c1 s1 dk : Nat} {cc : ByteArray} {nL pc : Nat} {L : List (Nat × Value)} {rest : List Value} {g : CG} {d : CD} {v : (XR Int32)} {n : Nat} {x0 : Nat} {x1 : Nat} {x2 : Int32} (C : Kok K cc nL RX6) (B : CB K T) (hta : rdT (ht g x0) = true) (dK : kR K = rmC dk c1 s1) (hd : 9 + 1 ≤ dk) (hcs : c0 + v.2.2.2.1 ≤ c1 ∧ s0 + v.2.2.2.2 ≤ s1) (hf : f_X6_look n x0 x1 x2 g d = some v) (hW : (rest.map fun v => v.category).sum ≤ 8) (dd : decode cc pc = .ok (.invokevirtual 121, 3)) (kx : ∀ q, v.1 = .inr q → XT K nL (Wc K T (c0 + v.2.2.2.1) (s0 + v.2.2.2.2) v.2.1 v.2.2.1) pc L rest q) (kk2 : ∀ r, v.1 = .inl r → XJ K nL (Wc K T (c0 + v.2.2.2.1) (s0 + v.2.2.2.2) v.2.1 v.2.2.1) (pc + 3) L ((.int r) :: rest)) : XJ K nL (Wc K T c0 s0 g d) pc L (.int x2 :: .ref x1 :: .ref x0 :: rest) := by
  have kk3 : ∀ w, xoI v.1 = .inl w → XJ K nL (Wc K T (c0 + v.2.2.2.1) (s0 + v.2.2.2.2) v.2.1 v.2.2.1) (pc + 3) L (w.toList ++ rest) := fun w h => by
    obtain ⟨r, e1, rfl⟩ := xoI_l h
    exact kk2 r e1
  have kx3 : ∀ q, xoI v.1 = .inr q → XT K nL (Wc K T (c0 + v.2.2.2.1) (s0 + v.2.2.2.2) v.2.1 v.2.2.1) pc L rest q := fun q h => kx q (xoI_r h)
  rcases rdT_or hta with e | e | e
  · exact cx_callU (rest := rest) (o := xoI v.1) (x := ⟨"StatueRent$Reader", "look", "([JI)I"⟩) (owner := "StatueRent$Reader") [.ref x1, .int x2] 2 rfl C B e (by decide) (by decide) rfl dK hd (Nat.le_of_ble_eq_true rfl) hcs q921 q915 q917 (C.2.2.2.2.1 _ q918) q916 q128 rfl (by decide +kernel) (met_X6_look hf) rfl hW dd kx3 kk3
  · exact cx_callU (rest := rest) (o := xoI v.1) (x := ⟨"StatueRent$Reader", "look", "([JI)I"⟩) (owner := "StatueRent$Reader") [.ref x1, .int x2] 2 rfl C B e (by decide) (by decide) rfl dK hd (Nat.le_of_ble_eq_true rfl) hcs q921 q915 q917 (C.2.2.2.2.1 _ q919) q916 q128 rfl (by decide +kernel) (met_X6_look hf) rfl hW dd kx3 kk3
  · exact cx_callU (rest := rest) (o := xoI v.1) (x := ⟨"StatueRent$Reader", "look", "([JI)I"⟩) (owner := "StatueRent$Reader") [.ref x1, .int x2] 2 rfl C B e (by decide) (by decide) rfl dK hd (Nat.le_of_ble_eq_true rfl) hcs q921 q915 q917 (C.2.2.2.2.1 _ q920) q916 q128 rfl (by decide +kernel) (met_X6_look hf) rfl hW dd kx3 kk3
def f_X6_known (n : Nat) (x0 : Nat) (x1 : Nat) (x2 : Int32) (g : CG) (d : CD) : Option (XR Int32) := if rdT (ht g x0) = true then (f_X6_look n x0 x1 x2 g d).bind fun r2 => tick r2.2.2.2.1 r2.2.2.2.2 (xcase r2 fun r5 => if rdT (ht r2.2.1 x0) = true then (f_X6_next n r2.2.1 x0 r2.2.2.1).bind fun r7 => some (.inl r5, r2.2.1, r7, 0, 0) else none) else none
set_option maxHeartbeats 4000000 in
theorem w_X6_known_E {K : KT} {T : CT} {r : (Int32 ⊕ Nat)} {g9 : CG} {d9 : CD} {c1 s1 : Nat} (n : Nat) (C : Kok K cX6_known 4 RX6) (B : CB K T) (hrt : (kMe K).sig.returnType = (some .int)) (dK : kR K = rmC 10 c1 s1) (hQ : KQx K T (xoI r) c1 s1 g9 d9) (x0 : Nat) (x1 : Nat) (x2 : Int32) (g : CG) (d : CD) (c0 s0 k m9 : Nat) (hc : c1 = c0 + k) (hs : s1 = s0 + m9) (hf : f_X6_known n x0 x1 x2 g d = some (r, g9, d9, k, m9)) : XJ K 4 (Wc K T c0 s0 g d) 0 [(0, .ref x0), (1, .ref x1), (2, .int x2)] [] := by
  unfold f_X6_known at hf
  refine x_aload_n C dX6_known_0 0 rfl ?_
  refine x_aload_n C dX6_known_1 1 rfl ?_
  refine x_iload_n C dX6_known_2 2 rfl ?_
  obtain ⟨t1, hf⟩ := pf_ch hf
  obtain ⟨r2, er2, hf⟩ := pf_b hf
  obtain ⟨j3, i4, ej3, ei4, hf⟩ := pf_tk hf
  refine k_X6_look_X6 C B t1 dK (Nat.le_of_ble_eq_true rfl) (by omega) er2 (Nat.le_of_ble_eq_true rfl) dX6_known_3 (fun q eq => ?_) (fun r5 er5 => ?_)
  · obtain ⟨rfl, rfl, rfl, rfl, rfl⟩ := pf_xr eq hf
    exact c_csT (by omega) (by omega) (c_out C hQ)
  have hf := pf_xl er5 hf
  refine x_istore_n (L' := [(0, .ref x0), (3, .int r5)]) C dX6_known_6 (Nat.le_of_ble_eq_true rfl) [1, 0] rfl ?_
  refine x_aload_n C dX6_known_7 0 rfl ?_
  obtain ⟨t6, hf⟩ := pf_ch hf
  obtain ⟨r7, er7, hf⟩ := pf_b hf
  refine k_X6_next_X6 C B t6 dK (Nat.le_of_ble_eq_true rfl) (by omega) er7 (Nat.le_of_ble_eq_true rfl) dX6_known_8 ?_
  refine x_iload_n C dX6_known_11 1 rfl ?_
  obtain ⟨rfl, rfl, rfl, rfl, rfl⟩ := sr_inj hf
  refine c_cs (c0 := c1) (s0 := s1) (by omega) (by omega) ?_
  exact x_ret hQ (c_iret (K := kW K _) C hrt rfl dX6_known_12)
theorem met_X6_known {T : CT} {v : (XR Int32)} {n : Nat} {g : CG} {d : CD} {x0 : Nat} {x1 : Nat} {x2 : Int32} {l : Launch}  (hf : f_X6_known n x0 x1 x2 g d = some v) : vy_Met l yX6_known (ws_ yX6_known cX6_known 4 (some .int)) (rmC 10 v.2.2.2.1 v.2.2.2.2) (va_Pc [.ref x0, .ref x1, .int x2] (CU T g d)) (Qx T (xoI v.1) v.2.1 v.2.2.1) (Xx T (xoI v.1) v.2.1 v.2.2.1) v.2.2.2.1 v.2.2.2.2 (cA T) :=
  cx_met [.ref x0, .ref x1, .int x2] RX6 (by decide) rfl (Nat.le_of_ble_eq_true rfl) (fun K hl hR hrt C B hQ => w_X6_known_E n C B hrt hR hQ _ _ _ _ _ 0 0 _ _ (Nat.zero_add _).symm (Nat.zero_add _).symm hf)
