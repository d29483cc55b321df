set_option maxRecDepth 100000
def f_X11_init (x0 : Nat) (g : CG) (d : CD) : Option (SR Unit) := some ((), g, d, 0, 0)
set_option maxHeartbeats 4000000 in
theorem w_X11_init_E {K : KT} {T : CT} {r : Unit} {g9 : CG} {d9 : CD} {c1 s1 : Nat} (C : Kok K cX11_init 1 RX11) (B : CB K T) (hrt : (kMe K).sig.returnType = none) (hini : (kMe K).name = "<init>") (dK : kR K = rmC 3 c1 s1) (hQ : KQc K T none c1 s1 g9 d9) (x0 : Nat) (g : CG) (d : CD) (c0 s0 k m9 : Nat) (hc : c1 = c0 + k) (hs : s1 = s0 + m9) (hf : f_X11_init x0 g d = some (r, g9, d9, k, m9)) : XJ K 1 (Wc K T c0 s0 g d) 0 [(0, .ref x0)] [] := by
  unfold f_X11_init at hf
  refine x_aload_n C dX11_init_0 0 rfl ?_
  refine c_objI C q1397 dK (Nat.le_of_ble_eq_true rfl) (Nat.le_of_ble_eq_true rfl) dX11_init_1 ?_
  obtain ⟨rfl, rfl, rfl, rfl, rfl⟩ := sr_inj hf
  refine c_cs (c0 := c1) (s0 := s1) (by omega) (by omega) ?_
  exact c_vret C hrt hQ dX11_init_4
theorem met_X11_init {T : CT} {v : (SR Unit)} {g : CG} {d : CD} {x0 : Nat} {l : Launch} (hf : f_X11_init x0 g d = some v) : Met l yX11_init (ws_ yX11_init cX11_init 1 none) (rmC 3 v.2.2.2.1 v.2.2.2.2) (va_Pc [.ref x0] (CU T g d)) (Qc T none v.2.1 v.2.2.1) v.2.2.2.1 v.2.2.2.2 (cA T) :=
  c_metS [.ref x0] RX11 (by decide) rfl (Nat.le_of_ble_eq_true rfl) (fun K hl hR hrt hnm C B hQ => w_X11_init_E C B hrt hnm hR hQ _ _ _ 0 0 _ _ (Nat.zero_add _).symm (Nat.zero_add _).symm hf)
theorem k_X11_init_X12 {K : KT} {T : CT} {c0 s0 c1 s1 dk : Nat} {cc : ByteArray} {nL pc : Nat} {L : List (Nat × Value)} {rest : List Value} {g : CG} {d : CD} {v : (SR Unit)} {x0 : Nat} (C : Kok K cc nL RX12) (B : CB K T) (dK : kR K = rmC dk c1 s1) (hd : 3 + 1 ≤ dk) (hcs : c0 + v.2.2.2.1 ≤ c1 ∧ s0 + v.2.2.2.2 ≤ s1) (hf : f_X11_init x0 g d = some v) (hW : (rest.map fun v => v.category).sum ≤ 8) (dd : decode cc pc = .ok (.invokespecial 3, 3)) (kk2 : XJ K nL (Wc K T (c0 + v.2.2.2.1) (s0 + v.2.2.2.2) v.2.1 v.2.2.1) (pc + 3) L (rest)) : XJ K nL (Wc K T c0 s0 g d) pc L (.ref x0 :: rest) := by
  exact c_callIN (rest := rest) (v := none) [] 0 rfl C B dK hd (Nat.le_of_ble_eq_true rfl) hcs q1396 q1394 q1395 q144 rfl (by decide +kernel) (met_X11_init hf) rfl hW dd kk2
def f_X12_init (x0 : Nat) (x1 : Int32) (g : CG) (d : CD) : Option (SR Unit) := (f_X11_init x0 g d).bind fun r1 => tick r1.2.2.2.1 r1.2.2.2.2 (if ht r1.2.1 x0 = 9 then ev (wi r1.2.2.1 x0 0 x1) fun da5 => some ((), r1.2.1, da5, 0, 0) else none)
set_option maxHeartbeats 4000000 in
theorem w_X12_init_E {K : KT} {T : CT} {r : Unit} {g9 : CG} {d9 : CD} {c1 s1 : Nat} (C : Kok K cX12_init 2 RX12) (B : CB K T) (hrt : (kMe K).sig.returnType = none) (hini : (kMe K).name = "<init>") (dK : kR K = rmC 4 c1 s1) (hQ : KQc K T none c1 s1 g9 d9) (x0 : Nat) (x1 : Int32) (g : CG) (d : CD) (c0 s0 k m9 : Nat) (hc : c1 = c0 + k) (hs : s1 = s0 + m9) (hf : f_X12_init x0 x1 g d = some (r, g9, d9, k, m9)) : XJ K 2 (Wc K T c0 s0 g d) 0 [(0, .ref x0), (1, .int x1)] [] := by
  unfold f_X12_init at hf
  refine x_aload_n C dX12_init_0 0 rfl ?_
  obtain ⟨r1, er1, hf⟩ := pf_b hf
  obtain ⟨j2, i3, ej2, ei3, hf⟩ := pf_tk hf
  refine k_X11_init_X12 C B dK (Nat.le_of_ble_eq_true rfl) (by omega) er1 (Nat.le_of_ble_eq_true rfl) dX12_init_1 ?_
  refine x_aload_n C dX12_init_4 0 rfl ?_
  refine x_iload_n C dX12_init_5 1 rfl ?_
  obtain ⟨t4, hf⟩ := pf_ch hf
  refine cpf9_0 C B t4 q1398 fsm hini dX12_init_6 ?_
  obtain ⟨da5, eda5, hf⟩ := pf_e hf
  refine c_ren eda5 ?_
  obtain ⟨rfl, rfl, rfl, rfl, rfl⟩ := sr_inj hf
  refine c_cs (c0 := c1) (s0 := s1) (by omega) (by omega) ?_
  exact c_vret C hrt hQ dX12_init_9
theorem met_X12_init {T : CT} {v : (SR Unit)} {g : CG} {d : CD} {x0 : Nat} {x1 : Int32} {l : Launch} (hf : f_X12_init x0 x1 g d = some v) : Met l yX12_init (ws_ yX12_init cX12_init 2 none) (rmC 4 v.2.2.2.1 v.2.2.2.2) (va_Pc [.ref x0, .int x1] (CU T g d)) (Qc T none v.2.1 v.2.2.1) v.2.2.2.1 v.2.2.2.2 (cA T) :=
  c_metS [.ref x0, .int x1] RX12 (by decide) rfl (Nat.le_of_ble_eq_true rfl) (fun K hl hR hrt hnm C B hQ => w_X12_init_E C B hrt hnm hR hQ _ _ _ _ 0 0 _ _ (Nat.zero_add _).symm (Nat.zero_add _).symm hf)
theorem k_X11_init_X13 {K : KT} {T : CT} {c0 s0 c1 s1 dk : Nat} {cc : ByteArray} {nL pc : Nat} {L : List (Nat × Value)} {rest : List Value} {g : CG} {d : CD} {v : (SR Unit)} {x0 : Nat} (C : Kok K cc nL RX13) (B : CB K T) (dK : kR K = rmC dk c1 s1) (hd : 3 + 1 ≤ dk) (hcs : c0 + v.2.2.2.1 ≤ c1 ∧ s0 + v.2.2.2.2 ≤ s1) (hf : f_X11_init x0 g d = some v) (hW : (rest.map fun v => v.category).sum ≤ 8) (dd : decode cc pc = .ok (.invokespecial 1, 3)) (kk2 : XJ K nL (Wc K T (c0 + v.2.2.2.1) (s0 + v.2.2.2.2) v.2.1 v.2.2.1) (pc + 3) L (rest)) : XJ K nL (Wc K T c0 s0 g d) pc L (.ref x0 :: rest) := by
  exact c_callIN (rest := rest) (v := none) [] 0 rfl C B dK hd (Nat.le_of_ble_eq_true rfl) hcs q1396 q1414 q1395 q144 rfl (by decide +kernel) (met_X11_init hf) rfl hW dd kk2
def f_X13_init (x0 : Nat) (x1 : Int32) (x2 : Int32) (g : CG) (d : CD) : Option (SR Unit) := (f_X11_init x0 g d).bind fun r1 => tick r1.2.2.2.1 r1.2.2.2.2 (if ht r1.2.1 x0 = 10 then ev (wi r1.2.2.1 x0 0 x1) fun da5 => ev (wi da5 x0 1 x2) fun da6 => some ((), r1.2.1, da6, 0, 0) else none)
set_option maxHeartbeats 4000000 in
theorem w_X13_init_E {K : KT} {T : CT} {r : Unit} {g9 : CG} {d9 : CD} {c1 s1 : Nat} (C : Kok K cX13_init 3 RX13) (B : CB K T) (hrt : (kMe K).sig.returnType = none) (hini : (kMe K).name = "<init>") (dK : kR K = rmC 4 c1 s1) (hQ : KQc K T none c1 s1 g9 d9) (x0 : Nat) (x1 : Int32) (x2 : Int32) (g : CG) (d : CD) (c0 s0 k m9 : Nat) (hc : c1 = c0 + k) (hs : s1 = s0 + m9) (hf : f_X13_init x0 x1 x2 g d = some (r, g9, d9, k, m9)) : XJ K 3 (Wc K T c0 s0 g d) 0 [(0, .ref x0), (1, .int x1), (2, .int x2)] [] := by
  unfold f_X13_init at hf
  refine x_aload_n C dX13_init_0 0 rfl ?_
  obtain ⟨r1, er1, hf⟩ := pf_b hf
  obtain ⟨j2, i3, ej2, ei3, hf⟩ := pf_tk hf
  refine k_X11_init_X13 C B dK (Nat.le_of_ble_eq_true rfl) (by omega) er1 (Nat.le_of_ble_eq_true rfl) dX13_init_1 ?_
  refine x_aload_n C dX13_init_4 0 rfl ?_
  refine x_iload_n C dX13_init_5 1 rfl ?_
  obtain ⟨t4, hf⟩ := pf_ch hf
  refine cpf10_0 C B t4 q1415 fsm hini dX13_init_6 ?_
  obtain ⟨da5, eda5, hf⟩ := pf_e hf
  refine c_ren eda5 ?_
  refine x_aload_n C dX13_init_9 0 rfl ?_
  refine x_iload_n C dX13_init_10 2 rfl ?_
  refine cpf10_1 C B t4 q1416 fsm hini dX13_init_11 ?_
  obtain ⟨da6, eda6, hf⟩ := pf_e hf
  refine c_ren eda6 ?_
  obtain ⟨rfl, rfl, rfl, rfl, rfl⟩ := sr_inj hf
  refine c_cs (c0 := c1) (s0 := s1) (by omega) (by omega) ?_
  exact c_vret C hrt hQ dX13_init_14
theorem met_X13_init {T : CT} {v : (SR Unit)} {g : CG} {d : CD} {x0 : Nat} {x1 : Int32} {x2 : Int32} {l : Launch} (hf : f_X13_init x0 x1 x2 g d = some v) : Met l yX13_init (ws_ yX13_init cX13_init 3 none) (rmC 4 v.2.2.2.1 v.2.2.2.2) (va_Pc [.ref x0, .int x1, .int x2] (CU T g d)) (Qc T none v.2.1 v.2.2.1) v.2.2.2.1 v.2.2.2.2 (cA T) :=
  c_metS [.ref x0, .int x1, .int x2] RX13 (by decide) rfl (Nat.le_of_ble_eq_true rfl) (fun K hl hR hrt hnm C B hQ => w_X13_init_E C B hrt hnm hR hQ _ _ _ _ _ 0 0 _ _ (Nat.zero_add _).symm (Nat.zero_add _).symm hf)
theorem k_X11_init_X14 {K : KT} {T : CT} {c0 s0 c1 s1 dk : Nat} {cc : ByteArray} {nL pc : Nat} {L : List (Nat × Value)} {rest : List Value} {g : CG} {d : CD} {v : (SR Unit)} {x0 : Nat} (C : Kok K cc nL RX14) (B : CB K T) (dK : kR K = rmC dk c1 s1) (hd : 3 + 1 ≤ dk) (hcs : c0 + v.2.2.2.1 ≤ c1 ∧ s0 + v.2.2.2.2 ≤ s1) (hf : f_X11_init x0 g d = some v) (hW : (rest.map fun v => v.category).sum ≤ 8) (dd : decode cc pc = .ok (.invokespecial 1, 3)) (kk2 : XJ K nL (Wc K T (c0 + v.2.2.2.1) (s0 + v.2.2.2.2) v.2.1 v.2.2.1) (pc + 3) L (rest)) : XJ K nL (Wc K T c0 s0 g d) pc L (.ref x0 :: rest) := by
  exact c_callIN (rest := rest) (v := none) [] 0 rfl C B dK hd (Nat.le_of_ble_eq_true rfl) hcs q1396 q1428 q1395 q144 rfl (by decide +kernel) (met_X11_init hf) rfl hW dd kk2
def f_X14_init (x0 : Nat) (x1 : Int32) (g : CG) (d : CD) : Option (SR Unit) := (f_X11_init x0 g d).bind fun r1 => tick r1.2.2.2.1 r1.2.2.2.2 (if ht r1.2.1 x0 = 11 then ev (wi r1.2.2.1 x0 0 x1) fun da5 => some ((), r1.2.1, da5, 0, 0) else none)
set_option maxHeartbeats 4000000 in
theorem w_X14_init_E {K : KT} {T : CT} {r : Unit} {g9 : CG} {d9 : CD} {c1 s1 : Nat} (C : Kok K cX14_init 2 RX14) (B : CB K T) (hrt : (kMe K).sig.returnType = none) (hini : (kMe K).name = "<init>") (dK : kR K = rmC 4 c1 s1) (hQ : KQc K T none c1 s1 g9 d9) (x0 : Nat) (x1 : Int32) (g : CG) (d : CD) (c0 s0 k m9 : Nat) (hc : c1 = c0 + k) (hs : s1 = s0 + m9) (hf : f_X14_init x0 x1 g d = some (r, g9, d9, k, m9)) : XJ K 2 (Wc K T c0 s0 g d) 0 [(0, .ref x0), (1, .int x1)] [] := by
  unfold f_X14_init at hf
  refine x_aload_n C dX14_init_0 0 rfl ?_
  obtain ⟨r1, er1, hf⟩ := pf_b hf
  obtain ⟨j2, i3, ej2, ei3, hf⟩ := pf_tk hf
  refine k_X11_init_X14 C B dK (Nat.le_of_ble_eq_true rfl) (by omega) er1 (Nat.le_of_ble_eq_true rfl) dX14_init_1 ?_
  refine x_aload_n C dX14_init_4 0 rfl ?_
  refine x_iload_n C dX14_init_5 1 rfl ?_
  obtain ⟨t4, hf⟩ := pf_ch hf
  refine cpf11_0 C B t4 q1429 fsm hini dX14_init_6 ?_
  obtain ⟨da5, eda5, hf⟩ := pf_e hf
  refine c_ren eda5 ?_
  obtain ⟨rfl, rfl, rfl, rfl, rfl⟩ := sr_inj hf
  refine c_cs (c0 := c1) (s0 := s1) (by omega) (by omega) ?_
  exact c_vret C hrt hQ dX14_init_9
theorem met_X14_init {T : CT} {v : (SR Unit)} {g : CG} {d : CD} {x0 : Nat} {x1 : Int32} {l : Launch} (hf : f_X14_init x0 x1 g d = some v) : Met l yX14_init (ws_ yX14_init cX14_init 2 none) (rmC 4 v.2.2.2.1 v.2.2.2.2) (va_Pc [.ref x0, .int x1] (CU T g d)) (Qc T none v.2.1 v.2.2.1) v.2.2.2.1 v.2.2.2.2 (cA T) :=
  c_metS [.ref x0, .int x1] RX14 (by decide) rfl (Nat.le_of_ble_eq_true rfl) (fun K hl hR hrt hnm C B hQ => w_X14_init_E C B hrt hnm hR hQ _ _ _ _ 0 0 _ _ (Nat.zero_add _).symm (Nat.zero_add _).symm hf)
theorem k_X11_init_X15 {K : KT} {T : CT} {c0 s0 c1 s1 dk : Nat} {cc : ByteArray} {nL pc : Nat} {L : List (Nat × Value)} {rest : List Value} {g : CG} {d : CD} {v : (SR Unit)} {x0 : Nat} (C : Kok K cc nL RX15) (B : CB K T) (dK : kR K = rmC dk c1 s1) (hd : 3 + 1 ≤ dk) (hcs : c0 + v.2.2.2.1 ≤ c1 ∧ s0 + v.2.2.2.2 ≤ s1) (hf : f_X11_init x0 g d = some v) (hW : (rest.map fun v => v.category).sum ≤ 8) (dd : decode cc pc = .ok (.invokespecial 1, 3)) (kk2 : XJ K nL (Wc K T (c0 + v.2.2.2.1) (s0 + v.2.2.2.2) v.2.1 v.2.2.1) (pc + 3) L (rest)) : XJ K nL (Wc K T c0 s0 g d) pc L (.ref x0 :: rest) := by
  exact c_callIN (rest := rest) (v := none) [] 0 rfl C B dK hd (Nat.le_of_ble_eq_true rfl) hcs q1396 q1439 q1395 q144 rfl (by decide +kernel) (met_X11_init hf) rfl hW dd kk2
def f_X15_init (x0 : Nat) (x1 : Int32) (x2 : Int32) (g : CG) (d : CD) : Option (SR Unit) := (f_X11_init x0 g d).bind fun r1 => tick r1.2.2.2.1 r1.2.2.2.2 (if ht r1.2.1 x0 = 12 then ev (wi r1.2.2.1 x0 0 x1) fun da5 => ev (wi da5 x0 1 x2) fun da6 => some ((), r1.2.1, da6, 0, 0) else none)
set_option maxHeartbeats 4000000 in
theorem w_X15_init_E {K : KT} {T : CT} {r : Unit} {g9 : CG} {d9 : CD} {c1 s1 : Nat} (C : Kok K cX15_init 3 RX15) (B : CB K T) (hrt : (kMe K).sig.returnType = none) (hini : (kMe K).name = "<init>") (dK : kR K = rmC 4 c1 s1) (hQ : KQc K T none c1 s1 g9 d9) (x0 : Nat) (x1 : Int32) (x2 : Int32) (g : CG) (d : CD) (c0 s0 k m9 : Nat) (hc : c1 = c0 + k) (hs : s1 = s0 + m9) (hf : f_X15_init x0 x1 x2 g d = some (r, g9, d9, k, m9)) : XJ K 3 (Wc K T c0 s0 g d) 0 [(0, .ref x0), (1, .int x1), (2, .int x2)] [] := by
  unfold f_X15_init at hf
  refine x_aload_n C dX15_init_0 0 rfl ?_
  obtain ⟨r1, er1, hf⟩ := pf_b hf
  obtain ⟨j2, i3, ej2, ei3, hf⟩ := pf_tk hf
  refine k_X11_init_X15 C B dK (Nat.le_of_ble_eq_true rfl) (by omega) er1 (Nat.le_of_ble_eq_true rfl) dX15_init_1 ?_
  refine x_aload_n C dX15_init_4 0 rfl ?_
  refine x_iload_n C dX15_init_5 1 rfl ?_
  obtain ⟨t4, hf⟩ := pf_ch hf
  refine cpf12_0 C B t4 q1440 fsm hini dX15_init_6 ?_
  obtain ⟨da5, eda5, hf⟩ := pf_e hf
  refine c_ren eda5 ?_
  refine x_aload_n C dX15_init_9 0 rfl ?_
  refine x_iload_n C dX15_init_10 2 rfl ?_
  refine cpf12_1 C B t4 q1441 fsm hini dX15_init_11 ?_
  obtain ⟨da6, eda6, hf⟩ := pf_e hf
  refine c_ren eda6 ?_
  obtain ⟨rfl, rfl, rfl, rfl, rfl⟩ := sr_inj hf
  refine c_cs (c0 := c1) (s0 := s1) (by omega) (by omega) ?_
  exact c_vret C hrt hQ dX15_init_14
theorem met_X15_init {T : CT} {v : (SR Unit)} {g : CG} {d : CD} {x0 : Nat} {x1 : Int32} {x2 : Int32} {l : Launch} (hf : f_X15_init x0 x1 x2 g d = some v) : Met l yX15_init (ws_ yX15_init cX15_init 3 none) (rmC 4 v.2.2.2.1 v.2.2.2.2) (va_Pc [.ref x0, .int x1, .int x2] (CU T g d)) (Qc T none v.2.1 v.2.2.1) v.2.2.2.1 v.2.2.2.2 (cA T) :=
  c_metS [.ref x0, .int x1, .int x2] RX15 (by decide) rfl (Nat.le_of_ble_eq_true rfl) (fun K hl hR hrt hnm C B hQ => w_X15_init_E C B hrt hnm hR hQ _ _ _ _ _ 0 0 _ _ (Nat.zero_add _).symm (Nat.zero_add _).symm hf)
theorem k_X11_init_X16 {K : KT} {T : CT} {c0 s0 c1 s1 dk : Nat} {cc : ByteArray} {nL pc : Nat} {L : List (Nat × Value)} {rest : List Value} {g : CG} {d : CD} {v : (SR Unit)} {x0 : Nat} (C : Kok K cc nL RX16) (B : CB K T) (dK : kR K = rmC dk c1 s1) (hd : 3 + 1 ≤ dk) (hcs : c0 + v.2.2.2.1 ≤ c1 ∧ s0 + v.2.2.2.2 ≤ s1) (hf : f_X11_init x0 g d = some v) (hW : (rest.map fun v => v.category).sum ≤ 8) (dd : decode cc pc = .ok (.invokespecial 1, 3)) (kk2 : XJ K nL (Wc K T (c0 + v.2.2.2.1) (s0 + v.2.2.2.2) v.2.1 v.2.2.1) (pc + 3) L (rest)) : XJ K nL (Wc K T c0 s0 g d) pc L (.ref x0 :: rest) := by
  exact c_callIN (rest := rest) (v := none) [] 0 rfl C B dK hd (Nat.le_of_ble_eq_true rfl) hcs q1396 q1453 q1395 q144 rfl (by decide +kernel) (met_X11_init hf) rfl hW dd kk2
def f_X16_init (x0 : Nat) (x1 : Int32) (x2 : Int32) (x3 : Int32) (g : CG) (d : CD) : Option (SR Unit) := (f_X11_init x0 g d).bind fun r1 => tick r1.2.2.2.1 r1.2.2.2.2 (if ht r1.2.1 x0 = 13 then ev (wi r1.2.2.1 x0 0 x1) fun da5 => ev (wi da5 x0 1 x2) fun da6 => ev (wi da6 x0 2 x3) fun da7 => some ((), r1.2.1, da7, 0, 0) else none)
set_option maxHeartbeats 4000000 in
theorem w_X16_init_E {K : KT} {T : CT} {r : Unit} {g9 : CG} {d9 : CD} {c1 s1 : Nat} (C : Kok K cX16_init 4 RX16) (B : CB K T) (hrt : (kMe K).sig.returnType = none) (hini : (kMe K).name = "<init>") (dK : kR K = rmC 4 c1 s1) (hQ : KQc K T none c1 s1 g9 d9) (x0 : Nat) (x1 : Int32) (x2 : Int32) (x3 : Int32) (g : CG) (d : CD) (c0 s0 k m9 : Nat) (hc : c1 = c0 + k) (hs : s1 = s0 + m9) (hf : f_X16_init x0 x1 x2 x3 g d = some (r, g9, d9, k, m9)) : XJ K 4 (Wc K T c0 s0 g d) 0 [(0, .ref x0), (1, .int x1), (2, .int x2), (3, .int x3)] [] := by
  unfold f_X16_init at hf
  refine x_aload_n C dX16_init_0 0 rfl ?_
  obtain ⟨r1, er1, hf⟩ := pf_b hf
  obtain ⟨j2, i3, ej2, ei3, hf⟩ := pf_tk hf
  refine k_X11_init_X16 C B dK (Nat.le_of_ble_eq_true rfl) (by omega) er1 (Nat.le_of_ble_eq_true rfl) dX16_init_1 ?_
  refine x_aload_n C dX16_init_4 0 rfl ?_
  refine x_iload_n C dX16_init_5 1 rfl ?_
  obtain ⟨t4, hf⟩ := pf_ch hf
  refine cpf13_0 C B t4 q1454 fsm hini dX16_init_6 ?_
  obtain ⟨da5, eda5, hf⟩ := pf_e hf
  refine c_ren eda5 ?_
  refine x_aload_n C dX16_init_9 0 rfl ?_
  refine x_iload_n C dX16_init_10 2 rfl ?_
  refine cpf13_1 C B t4 q1455 fsm hini dX16_init_11 ?_
  obtain ⟨da6, eda6, hf⟩ := pf_e hf
  refine c_ren eda6 ?_
  refine x_aload_n C dX16_init_14 0 rfl ?_
  refine x_iload_n C dX16_init_15 3 rfl ?_
  refine cpf13_2 C B t4 q1456 fsm hini dX16_init_16 ?_
  obtain ⟨da7, eda7, hf⟩ := pf_e hf
  refine c_ren eda7 ?_
  obtain ⟨rfl, rfl, rfl, rfl, rfl⟩ := sr_inj hf
  refine c_cs (c0 := c1) (s0 := s1) (by omega) (by omega) ?_
  exact c_vret C hrt hQ dX16_init_19
theorem met_X16_init {T : CT} {v : (SR Unit)} {g : CG} {d : CD} {x0 : Nat} {x1 : Int32} {x2 : Int32} {x3 : Int32} {l : Launch} (hf : f_X16_init x0 x1 x2 x3 g d = some v) : Met l yX16_init (ws_ yX16_init cX16_init 4 none) (rmC 4 v.2.2.2.1 v.2.2.2.2) (va_Pc [.ref x0, .int x1, .int x2, .int x3] (CU T g d)) (Qc T none v.2.1 v.2.2.1) v.2.2.2.1 v.2.2.2.2 (cA T) :=
  c_metS [.ref x0, .int x1, .int x2, .int x3] RX16 (by decide) rfl (Nat.le_of_ble_eq_true rfl) (fun K hl hR hrt hnm C B hQ => w_X16_init_E C B hrt hnm hR hQ _ _ _ _ _ _ 0 0 _ _ (Nat.zero_add _).symm (Nat.zero_add _).symm hf)
def f_X17_init (x0 : Nat) (x1 : Nat) (g : CG) (d : CD) : Option (SR Unit) := if ht g x0 = 14 then ev (wr g x0 0 (some x1)) fun ga2 => some ((), ga2, d, 0, 0) else none
set_option maxHeartbeats 4000000 in
theorem w_X17_init_E {K : KT} {T : CT} {r : Unit} {g9 : CG} {d9 : CD} {c1 s1 : Nat} (C : Kok K cX17_init 2 RX17) (B : CB K T) (hrt : (kMe K).sig.returnType = none) (hini : (kMe K).name = "<init>") (dK : kR K = rmC 3 c1 s1) (hQ : KQc K T none c1 s1 g9 d9) (x0 : Nat) (x1 : Nat) (g : CG) (d : CD) (c0 s0 k m9 : Nat) (hc : c1 = c0 + k) (hs : s1 = s0 + m9) (hf : f_X17_init x0 x1 g d = some (r, g9, d9, k, m9)) : XJ K 2 (Wc K T c0 s0 g d) 0 [(0, .ref x0), (1, .ref x1)] [] := by
  unfold f_X17_init at hf
  refine x_aload_n C dX17_init_0 0 rfl ?_
  refine c_objI C q1560 dK (Nat.le_of_ble_eq_true rfl) (Nat.le_of_ble_eq_true rfl) dX17_init_1 ?_
  refine x_aload_n C dX17_init_4 0 rfl ?_
  refine x_aload_n C dX17_init_5 1 rfl ?_
  obtain ⟨t1, hf⟩ := pf_ch hf
  refine cpf14_0 C B t1 q1561 fsm hini dX17_init_6 ?_
  obtain ⟨ga2, ega2, hf⟩ := pf_e hf
  refine c_renG ega2 ?_
  obtain ⟨rfl, rfl, rfl, rfl, rfl⟩ := sr_inj hf
  refine c_cs (c0 := c1) (s0 := s1) (by omega) (by omega) ?_
  exact c_vret C hrt hQ dX17_init_9
theorem met_X17_init {T : CT} {v : (SR Unit)} {g : CG} {d : CD} {x0 : Nat} {x1 : Nat} {l : Launch} (hf : f_X17_init x0 x1 g d = some v) : Met l yX17_init (ws_ yX17_init cX17_init 2 none) (rmC 3 v.2.2.2.1 v.2.2.2.2) (va_Pc [.ref x0, .ref x1] (CU T g d)) (Qc T none v.2.1 v.2.2.1) v.2.2.2.1 v.2.2.2.2 (cA T) :=
  c_metS [.ref x0, .ref x1] RX17 (by decide) rfl (Nat.le_of_ble_eq_true rfl) (fun K hl hR hrt hnm C B hQ => w_X17_init_E C B hrt hnm hR hQ _ _ _ _ 0 0 _ _ (Nat.zero_add _).symm (Nat.zero_add _).symm hf)
def f_X18_init (x0 : Nat) (x1 : Int32) (x2 : Int32) (g : CG) (d : CD) : Option (SR Unit) := if ht g x0 = 15 then ev (wi d x0 0 x1) fun da2 => ev (wi da2 x0 1 x2) fun da3 => some ((), g, da3, 0, 0) else none
set_option maxHeartbeats 4000000 in
theorem w_X18_init_E {K : KT} {T : CT} {r : Unit} {g9 : CG} {d9 : CD} {c1 s1 : Nat} (C : Kok K cX18_init 3 RX18) (B : CB K T) (hrt : (kMe K).sig.returnType = none) (hini : (kMe K).name = "<init>") (dK : kR K = rmC 3 c1 s1) (hQ : KQc K T none c1 s1 g9 d9) (x0 : Nat) (x1 : Int32) (x2 : Int32) (g : CG) (d : CD) (c0 s0 k m9 : Nat) (hc : c1 = c0 + k) (hs : s1 = s0 + m9) (hf : f_X18_init x0 x1 x2 g d = some (r, g9, d9, k, m9)) : XJ K 3 (Wc K T c0 s0 g d) 0 [(0, .ref x0), (1, .int x1), (2, .int x2)] [] := by
  unfold f_X18_init at hf
  refine x_aload_n C dX18_init_0 0 rfl ?_
  refine c_objI C q1576 dK (Nat.le_of_ble_eq_true rfl) (Nat.le_of_ble_eq_true rfl) dX18_init_1 ?_
  refine x_aload_n C dX18_init_4 0 rfl ?_
  refine x_iload_n C dX18_init_5 1 rfl ?_
  obtain ⟨t1, hf⟩ := pf_ch hf
  refine cpf15_0 C B t1 q1577 fsm hini dX18_init_6 ?_
  obtain ⟨da2, eda2, hf⟩ := pf_e hf
  refine c_ren eda2 ?_
  refine x_aload_n C dX18_init_9 0 rfl ?_
  refine x_iload_n C dX18_init_10 2 rfl ?_
  refine cpf15_1 C B t1 q1578 fsm hini dX18_init_11 ?_
  obtain ⟨da3, eda3, hf⟩ := pf_e hf
  refine c_ren eda3 ?_
  obtain ⟨rfl, rfl, rfl, rfl, rfl⟩ := sr_inj hf
  refine c_cs (c0 := c1) (s0 := s1) (by omega) (by omega) ?_
  exact c_vret C hrt hQ dX18_init_14
theorem met_X18_init {T : CT} {v : (SR Unit)} {g : CG} {d : CD} {x0 : Nat} {x1 : Int32} {x2 : Int32} {l : Launch} (hf : f_X18_init x0 x1 x2 g d = some v) : Met l yX18_init (ws_ yX18_init cX18_init 3 none) (rmC 3 v.2.2.2.1 v.2.2.2.2) (va_Pc [.ref x0, .int x1, .int x2] (CU T g d)) (Qc T none v.2.1 v.2.2.1) v.2.2.2.1 v.2.2.2.2 (cA T) :=
  c_metS [.ref x0, .int x1, .int x2] RX18 (by decide) rfl (Nat.le_of_ble_eq_true rfl) (fun K hl hR hrt hnm C B hQ => w_X18_init_E C B hrt hnm hR hQ _ _ _ _ _ 0 0 _ _ (Nat.zero_add _).symm (Nat.zero_add _).symm hf)
def f_X19_init (x0 : Nat) (x1 : Int32) (x2 : Int32) (x3 : Int32) (g : CG) (d : CD) : Option (SR Unit) := if ht g x0 = 16 then ev (wi d x0 0 x1) fun da2 => ev (wi da2 x0 1 x2) fun da3 => ev (wi da3 x0 2 x3) fun da4 => some ((), g, da4, 0, 0) else none
set_option maxHeartbeats 4000000 in
theorem w_X19_init_E {K : KT} {T : CT} {r : Unit} {g9 : CG} {d9 : CD} {c1 s1 : Nat} (C : Kok K cX19_init 4 RX19) (B : CB K T) (hrt : (kMe K).sig.returnType = none) (hini : (kMe K).name = "<init>") (dK : kR K = rmC 3 c1 s1) (hQ : KQc K T none c1 s1 g9 d9) (x0 : Nat) (x1 : Int32) (x2 : Int32) (x3 : Int32) (g : CG) (d : CD) (c0 s0 k m9 : Nat) (hc : c1 = c0 + k) (hs : s1 = s0 + m9) (hf : f_X19_init x0 x1 x2 x3 g d = some (r, g9, d9, k, m9)) : XJ K 4 (Wc K T c0 s0 g d) 0 [(0, .ref x0), (1, .int x1), (2, .int x2), (3, .int x3)] [] := by
  unfold f_X19_init at hf
  refine x_aload_n C dX19_init_0 0 rfl ?_
  refine c_objI C q1589 dK (Nat.le_of_ble_eq_true rfl) (Nat.le_of_ble_eq_true rfl) dX19_init_1 ?_
  refine x_aload_n C dX19_init_4 0 rfl ?_
  refine x_iload_n C dX19_init_5 1 rfl ?_
  obtain ⟨t1, hf⟩ := pf_ch hf
  refine cpf16_0 C B t1 q1590 fsm hini dX19_init_6 ?_
  obtain ⟨da2, eda2, hf⟩ := pf_e hf
  refine c_ren eda2 ?_
  refine x_aload_n C dX19_init_9 0 rfl ?_
  refine x_iload_n C dX19_init_10 2 rfl ?_
  refine cpf16_1 C B t1 q1591 fsm hini dX19_init_11 ?_
  obtain ⟨da3, eda3, hf⟩ := pf_e hf
  refine c_ren eda3 ?_
  refine x_aload_n C dX19_init_14 0 rfl ?_
  refine x_iload_n C dX19_init_15 3 rfl ?_
  refine cpf16_2 C B t1 q1592 fsm hini dX19_init_16 ?_
  obtain ⟨da4, eda4, hf⟩ := pf_e hf
  refine c_ren eda4 ?_
  obtain ⟨rfl, rfl, rfl, rfl, rfl⟩ := sr_inj hf
  refine c_cs (c0 := c1) (s0 := s1) (by omega) (by omega) ?_
  exact c_vret C hrt hQ dX19_init_19
theorem met_X19_init {T : CT} {v : (SR Unit)} {g : CG} {d : CD} {x0 : Nat} {x1 : Int32} {x2 : Int32} {x3 : Int32} {l : Launch} (hf : f_X19_init x0 x1 x2 x3 g d = some v) : Met l yX19_init (ws_ yX19_init cX19_init 4 none) (rmC 3 v.2.2.2.1 v.2.2.2.2) (va_Pc [.ref x0, .int x1, .int x2, .int x3] (CU T g d)) (Qc T none v.2.1 v.2.2.1) v.2.2.2.1 v.2.2.2.2 (cA T) :=
  c_metS [.ref x0, .int x1, .int x2, .int x3] RX19 (by decide) rfl (Nat.le_of_ble_eq_true rfl) (fun K hl hR hrt hnm C B hQ => w_X19_init_E C B hrt hnm hR hQ _ _ _ _ _ _ 0 0 _ _ (Nat.zero_add _).symm (Nat.zero_add _).symm hf)
def f_X20_init (x0 : Nat) (x1 : Nat) (x2 : Nat) (g : CG) (d : CD) : Option (SR Unit) := if ht g x0 = 17 then ev (wr g x0 0 (some x1)) fun ga2 => if ht ga2 x0 = 17 then ev (wr ga2 x0 1 (some x2)) fun ga4 => some ((), ga4, d, 0, 0) else none else none
set_option maxHeartbeats 4000000 in
theorem w_X20_init_E {K : KT} {T : CT} {r : Unit} {g9 : CG} {d9 : CD} {c1 s1 : Nat} (C : Kok K cX20_init 3 RX20) (B : CB K T) (hrt : (kMe K).sig.returnType = none) (hini : (kMe K).name = "<init>") (dK : kR K = rmC 3 c1 s1) (hQ : KQc K T none c1 s1 g9 d9) (x0 : Nat) (x1 : Nat) (x2 : Nat) (g : CG) (d : CD) (c0 s0 k m9 : Nat) (hc : c1 = c0 + k) (hs : s1 = s0 + m9) (hf : f_X20_init x0 x1 x2 g d = some (r, g9, d9, k, m9)) : XJ K 3 (Wc K T c0 s0 g d) 0 [(0, .ref x0), (1, .ref x1), (2, .ref x2)] [] := by
  unfold f_X20_init at hf
  refine x_aload_n C dX20_init_0 0 rfl ?_
  refine c_objI C q1606 dK (Nat.le_of_ble_eq_true rfl) (Nat.le_of_ble_eq_true rfl) dX20_init_1 ?_
  refine x_aload_n C dX20_init_4 0 rfl ?_
  refine x_aload_n C dX20_init_5 1 rfl ?_
  obtain ⟨t1, hf⟩ := pf_ch hf
  refine cpf17_0 C B t1 q1607 fsm hini dX20_init_6 ?_
  obtain ⟨ga2, ega2, hf⟩ := pf_e hf
  refine c_renG ega2 ?_
  refine x_aload_n C dX20_init_9 0 rfl ?_
  refine x_aload_n C dX20_init_10 2 rfl ?_
  obtain ⟨t3, hf⟩ := pf_ch hf
  refine cpf17_1 C B t3 q1608 fsm hini dX20_init_11 ?_
  obtain ⟨ga4, ega4, hf⟩ := pf_e hf
  refine c_renG ega4 ?_
  obtain ⟨rfl, rfl, rfl, rfl, rfl⟩ := sr_inj hf
  refine c_cs (c0 := c1) (s0 := s1) (by omega) (by omega) ?_
  exact c_vret C hrt hQ dX20_init_14
theorem met_X20_init {T : CT} {v : (SR Unit)} {g : CG} {d : CD} {x0 : Nat} {x1 : Nat} {x2 : Nat} {l : Launch} (hf : f_X20_init x0 x1 x2 g d = some v) : Met l yX20_init (ws_ yX20_init cX20_init 3 none) (rmC 3 v.2.2.2.1 v.2.2.2.2) (va_Pc [.ref x0, .ref x1, .ref x2] (CU T g d)) (Qc T none v.2.1 v.2.2.1) v.2.2.2.1 v.2.2.2.2 (cA T) :=
  c_metS [.ref x0, .ref x1, .ref x2] RX20 (by decide) rfl (Nat.le_of_ble_eq_true rfl) (fun K hl hR hrt hnm C B hQ => w_X20_init_E C B hrt hnm hR hQ _ _ _ _ _ 0 0 _ _ (Nat.zero_add _).symm (Nat.zero_add _).symm hf)
def f_X21_init (x0 : Nat) (x1 : Nat) (x2 : Nat) (g : CG) (d : CD) : Option (SR Unit) := if ht g x0 = 18 then ev (wr g x0 0 (some x1)) fun ga2 => if ht ga2 x0 = 18 then ev (wr ga2 x0 1 (some x2)) fun ga4 => some ((), ga4, d, 0, 0) else none else none
set_option maxHeartbeats 4000000 in
theorem w_X21_init_E {K : KT} {T : CT} {r : Unit} {g9 : CG} {d9 : CD} {c1 s1 : Nat} (C : Kok K cX21_init 3 RX21) (B : CB K T) (hrt : (kMe K).sig.returnType = none) (hini : (kMe K).name = "<init>") (dK : kR K = rmC 3 c1 s1) (hQ : KQc K T none c1 s1 g9 d9) (x0 : Nat) (x1 : Nat) (x2 : Nat) (g : CG) (d : CD) (c0 s0 k m9 : Nat) (hc : c1 = c0 + k) (hs : s1 = s0 + m9) (hf : f_X21_init x0 x1 x2 g d = some (r, g9, d9, k, m9)) : XJ K 3 (Wc K T c0 s0 g d) 0 [(0, .ref x0), (1, .ref x1), (2, .ref x2)] [] := by
  unfold f_X21_init at hf
  refine x_aload_n C dX21_init_0 0 rfl ?_
  refine c_objI C q1620 dK (Nat.le_of_ble_eq_true rfl) (Nat.le_of_ble_eq_true rfl) dX21_init_1 ?_
  refine x_aload_n C dX21_init_4 0 rfl ?_
  refine x_aload_n C dX21_init_5 1 rfl ?_
  obtain ⟨t1, hf⟩ := pf_ch hf
  refine cpf18_0 C B t1 q1621 fsm hini dX21_init_6 ?_
  obtain ⟨ga2, ega2, hf⟩ := pf_e hf
  refine c_renG ega2 ?_
  refine x_aload_n C dX21_init_9 0 rfl ?_
  refine x_aload_n C dX21_init_10 2 rfl ?_
  obtain ⟨t3, hf⟩ := pf_ch hf
  refine cpf18_1 C B t3 q1622 fsm hini dX21_init_11 ?_
  obtain ⟨ga4, ega4, hf⟩ := pf_e hf
  refine c_renG ega4 ?_
  obtain ⟨rfl, rfl, rfl, rfl, rfl⟩ := sr_inj hf
  refine c_cs (c0 := c1) (s0 := s1) (by omega) (by omega) ?_
  exact c_vret C hrt hQ dX21_init_14
theorem met_X21_init {T : CT} {v : (SR Unit)} {g : CG} {d : CD} {x0 : Nat} {x1 : Nat} {x2 : Nat} {l : Launch} (hf : f_X21_init x0 x1 x2 g d = some v) : Met l yX21_init (ws_ yX21_init cX21_init 3 none) (rmC 3 v.2.2.2.1 v.2.2.2.2) (va_Pc [.ref x0, .ref x1, .ref x2] (CU T g d)) (Qc T none v.2.1 v.2.2.1) v.2.2.2.1 v.2.2.2.2 (cA T) :=
  c_metS [.ref x0, .ref x1, .ref x2] RX21 (by decide) rfl (Nat.le_of_ble_eq_true rfl) (fun K hl hR hrt hnm C B hQ => w_X21_init_E C B hrt hnm hR hQ _ _ _ _ _ 0 0 _ _ (Nat.zero_add _).symm (Nat.zero_add _).symm hf)
theorem k_X22_init_X1 {K : KT} {T : CT} {c0 s0 c1 s1 dk : Nat} {cc : ByteArray} {nL pc : Nat} {L : List (Nat × Value)} {rest : List Value} {g : CG} {d : CD} {v : (SR Unit)} {n : Nat} {x0 : Nat} (C : Kok K cc nL RX1) (B : CB K T) (dK : kR K = rmC dk c1 s1) (hd : 5 + 1 ≤ dk) (hcs : c0 + v.2.2.2.1 ≤ c1 ∧ s0 + v.2.2.2.2 ≤ s1) (hf : f_X22_init n x0 g d = some v) (hW : (rest.map fun v => v.category).sum ≤ 8) (dd : decode cc pc = .ok (.invokespecial 551, 3)) (kk2 : XJ K nL (Wc K T (c0 + v.2.2.2.1) (s0 + v.2.2.2.2) v.2.1 v.2.2.1) (pc + 3) L (rest)) : XJ K nL (Wc K T c0 s0 g d) pc L (.ref x0 :: rest) := by
  exact c_callIN (rest := rest) (v := none) [] 0 rfl C B dK hd (Nat.le_of_ble_eq_true rfl) hcs q1682 q1680 q1681 q155 rfl (by decide +kernel) (met_X22_init hf) rfl hW dd kk2
def f_X1_image_L33 (n : Nat) (x0 : Nat) (x1 : Int32) (g : CG) (d : CD) : Option (SR Int32) := if ht g x0 = 1 then (hr g x0 40).bind fun p2 => if ht g p2 = 106 then if inb x1 (hn g p2) = true then (hr g p2 (Int32.toNatClampNeg x1)).bind fun p5 => (hr g x0 6).bind fun p6 => if ht g p5 = 19 then ev (wr g p5 0 (some p6)) fun ga8 => if ht ga8 p5 = 19 then (hr ga8 p5 1).bind fun p10 => if ht ga8 x0 = 1 then (hr ga8 x0 7).bind fun p12 => if ht ga8 p10 = 4 then (f_X4_be n ga8 p10 p12 d).bind fun r14 => optc (hr ga8 x0 39) (ev (wr ga8 p5 2 none) fun ga16 => some ((1 : Int32), ga16, r14, 0, 0)) (fun p15 => ev (wr ga8 p5 2 (some p15)) fun ga17 => some ((1 : Int32), ga17, r14, 0, 0)) else none else none else none else none else none else none else none
set_option maxHeartbeats 4000000 in
theorem w_X1_image_33 {K : KT} {T : CT} {r : Int32} {g9 : CG} {d9 : CD} {c1 s1 : Nat} (n : Nat) (C : Kok K cX1_image 3 RX1) (B : CB K T) (hrt : (kMe K).sig.returnType = (some .boolean)) (dK : kR K = rmC 6 c1 s1) (hQ : KQc K T (some (.int r)) c1 s1 g9 d9) (x0 : Nat) (x1 : Int32) (g : CG) (d : CD) (c0 s0 k m9 : Nat) (hc : c1 = c0 + k) (hs : s1 = s0 + m9) (hf : f_X1_image_L33 n x0 x1 g d = some (r, g9, d9, k, m9)) : XJ K 3 (Wc K T c0 s0 g d) 33 [(0, .ref x0), (1, .int x1)] [] := by
  unfold f_X1_image_L33 at hf
  refine x_aload_n C dX1_image_33 0 rfl ?_
  obtain ⟨t1, hf⟩ := pf_ch hf
  obtain ⟨p2, ep2, hf⟩ := pf_b hf
  refine cg1_40 C B t1 (flo C q659) fsm ep2 dX1_image_34 ?_
  refine x_iload_n C dX1_image_37 1 rfl ?_
  obtain ⟨t3, hf⟩ := pf_ch hf
  obtain ⟨h4, hf⟩ := pf_in hf
  obtain ⟨p5, ep5, hf⟩ := pf_b hf
  refine ca_ald6 C B t3 h4 ep5 dX1_image_38 ?_
  refine x_astore_n (L' := [(0, .ref x0), (2, .ref p5)]) C dX1_image_39 (Nat.le_of_ble_eq_true rfl) [1, 0] rfl ?_
  refine x_aload_n C dX1_image_40 1 rfl ?_
  refine x_aload_n C dX1_image_41 0 rfl ?_
  obtain ⟨p6, ep6, hf⟩ := pf_b hf
  refine cg1_6 C B t1 (flo C q621) fsm ep6 dX1_image_42 ?_
  obtain ⟨t7, hf⟩ := pf_ch hf
  refine cpr19_0 C B t7 (fln B q1686) fsm dX1_image_45 ?_
  obtain ⟨ga8, ega8, hf⟩ := pf_e hf
  refine c_renG ega8 ?_
  refine x_aload_n C dX1_image_48 1 rfl ?_
  obtain ⟨t9, hf⟩ := pf_ch hf
  obtain ⟨p10, ep10, hf⟩ := pf_b hf
  refine cg19_1 C B t9 (fln B q1688) fsm ep10 dX1_image_49 ?_
  refine x_aload_n C dX1_image_52 0 rfl ?_
  obtain ⟨t11, hf⟩ := pf_ch hf
  obtain ⟨p12, ep12, hf⟩ := pf_b hf
  refine cg1_7 C B t11 (flo C q624) fsm ep12 dX1_image_53 ?_
  obtain ⟨t13, hf⟩ := pf_ch hf
  obtain ⟨r14, er14, hf⟩ := pf_b hf
  refine k_X4_be_X1 C B t13 dK (Nat.le_of_ble_eq_true rfl) (by omega) er14 (Nat.le_of_ble_eq_true rfl) dX1_image_56 ?_
  refine x_aload_n C dX1_image_59 1 rfl ?_
  refine x_aload_n C dX1_image_60 0 rfl ?_
  rcases ep15 : hr ga8 x0 39 with _ | p15
  · have hf := pf_on ep15 hf
    refine cgn1_39 C B t11 (flo C q658) fsm ep15 dX1_image_61 ?_
    refine cprn19_2 C B t9 (fln B q1689) fsm dX1_image_64 ?_
    obtain ⟨ga16, ega16, hf⟩ := pf_e hf
    refine c_renG ega16 ?_
    refine x_iconst (1 : Int32) C dX1_image_67 (by decide) ?_
    obtain ⟨rfl, rfl, rfl, rfl, rfl⟩ := sr_inj hf
    refine c_cs (c0 := c1) (s0 := s1) (by omega) (by omega) ?_
    exact c_zret C hrt (Or.inr rfl) hQ dX1_image_68
  · have hf := pf_os ep15 hf
    refine cg1_39 C B t11 (flo C q658) fsm ep15 dX1_image_61 ?_
    refine cpr19_2 C B t9 (fln B q1689) fsm dX1_image_64 ?_
    obtain ⟨ga17, ega17, hf⟩ := pf_e hf
    refine c_renG ega17 ?_
    refine x_iconst (1 : Int32) C dX1_image_67 (by decide) ?_
    obtain ⟨rfl, rfl, rfl, rfl, rfl⟩ := sr_inj hf
    refine c_cs (c0 := c1) (s0 := s1) (by omega) (by omega) ?_
    exact c_zret C hrt (Or.inr rfl) hQ dX1_image_68
def f_X1_image (n : Nat) (x0 : Nat) (x1 : Int32) (g : CG) (d : CD) : Option (SR Int32) := if (f_X1_isIn x1 (0 : Int32) (1 : Int32)) = 0 then (some ((0 : Int32), g, d, 0, 0)) else (if ht g x0 = 1 then (hr g x0 40).bind fun p3 => if ht g p3 = 106 then if inb x1 (hn g p3) = true then optc (hr g p3 (Int32.toNatClampNeg x1)) (tick 1 3 (ev (hz g) fun q7 => ev (nd d q7) fun da9 => ev (na g 19 0) fun ga8 => (f_X22_init n q7 ga8 da9).bind fun r12 => tick r12.2.2.2.1 r12.2.2.2.2 (if ht r12.2.1 p3 = 106 then if inb x1 (hn r12.2.1 p3) = true then if ht r12.2.1 q7 = 19 then ev (wr r12.2.1 p3 (Int32.toNatClampNeg x1) (some q7)) fun ga18 => f_X1_image_L33 n x0 x1 ga18 r12.2.2.1 else none else none else none))) (fun p6 => f_X1_image_L33 n x0 x1 g d) else none else none else none)
set_option maxHeartbeats 4000000 in
theorem w_X1_image_E {K : KT} {T : CT} {r : Int32} {g9 : CG} {d9 : CD} {c1 s1 : Nat} (n : Nat) (C : Kok K cX1_image 3 RX1) (B : CB K T) (hrt : (kMe K).sig.returnType = (some .boolean)) (dK : kR K = rmC 6 c1 s1) (hQ : KQc K T (some (.int r)) c1 s1 g9 d9) (x0 : Nat) (x1 : Int32) (g : CG) (d : CD) (c0 s0 k m9 : Nat) (hc : c1 = c0 + k) (hs : s1 = s0 + m9) (hf : f_X1_image n x0 x1 g d = some (r, g9, d9, k, m9)) : XJ K 3 (Wc K T c0 s0 g d) 0 [(0, .ref x0), (1, .int x1)] [] := by
  unfold f_X1_image at hf
  refine x_iload_n C dX1_image_0 1 rfl ?_
  refine x_iconst (0 : Int32) C dX1_image_1 (by decide) ?_
  refine x_iconst (1 : Int32) C dX1_image_2 (by decide) ?_
  refine k_X1_isIn_X1 C B dK (Nat.le_of_ble_eq_true rfl) (by omega) rfl (Nat.le_of_ble_eq_true rfl) dX1_image_3 ?_
  refine x_if_ne (tgt := 11) C dX1_image_6 (by decide) (fun w1 => ?_) (fun w1 => ?_)
  · have hf := pf_f w1 hf
    refine x_aload_n C dX1_image_11 0 rfl ?_
    obtain ⟨t2, hf⟩ := pf_ch hf
    obtain ⟨p3, ep3, hf⟩ := pf_b hf
    refine cg1_40 C B t2 (flo C q659) fsm ep3 dX1_image_12 ?_
    refine x_iload_n C dX1_image_15 1 rfl ?_
    obtain ⟨t4, hf⟩ := pf_ch hf
    obtain ⟨h5, hf⟩ := pf_in hf
    rcases ep6 : hr g p3 (Int32.toNatClampNeg x1) with _ | p6
    · have hf := pf_on ep6 hf
      refine ca_aldn6 C B t4 h5 ep6 dX1_image_16 ?_
      refine x_ifnonnullN C dX1_image_17 ?_
      refine x_aload_n C dX1_image_20 0 rfl ?_
      refine cg1_40 C B t2 (flo C q659) fsm ep3 dX1_image_21 ?_
      refine x_iload_n C dX1_image_24 1 rfl ?_
      obtain ⟨j10, i11, ej10, ei11, hf⟩ := pf_tk hf
      refine c_new19 C B q607 dK (by omega) dX1_image_25 ?_
      obtain ⟨q7, eq7, hf⟩ := pf_e hf
      refine x_toprr eq7 ?_
      obtain ⟨da9, eda9, hf⟩ := pf_e hf
      obtain ⟨ga8, ega8, hf⟩ := pf_e hf
      rw [← eq7, ← eda9, ← ega8]
      refine x_dup C dX1_image_28 rfl ?_
      obtain ⟨r12, er12, hf⟩ := pf_b hf
      obtain ⟨j13, i14, ej13, ei14, hf⟩ := pf_tk hf
      refine k_X22_init_X1 C B dK (Nat.le_of_ble_eq_true rfl) (by omega) er12 (Nat.le_of_ble_eq_true rfl) dX1_image_29 ?_
      obtain ⟨t15, hf⟩ := pf_ch hf
      obtain ⟨h16, hf⟩ := pf_in hf
      obtain ⟨t17, hf⟩ := pf_ch hf
      refine c_ast 6 C B (by decide) t15 rfl t17 (by decide) (by decide) rfl (Or.inl rfl) h16 dX1_image_32 ?_
      obtain ⟨ga18, ega18, hf⟩ := pf_e hf
      refine c_renG ega18 ?_
      exact w_X1_image_33 n C B hrt dK hQ x0 x1 _ _ _ _ _ _ (by omega) (by omega) hf
    · have hf := pf_os ep6 hf
      refine ca_ald6 C B t4 h5 ep6 dX1_image_16 ?_
      refine x_ifnonnull (tgt := 33) C dX1_image_17 (by decide) ?_
      exact w_X1_image_33 n C B hrt dK hQ x0 x1 _ _ _ _ _ _ (by omega) (by omega) hf
  · have hf := pf_t w1 hf
    refine x_iconst (0 : Int32) C dX1_image_9 (by decide) ?_
    obtain ⟨rfl, rfl, rfl, rfl, rfl⟩ := sr_inj hf
    refine c_cs (c0 := c1) (s0 := s1) (by omega) (by omega) ?_
    exact c_zret C hrt (Or.inl rfl) hQ dX1_image_10
theorem met_X1_image {T : CT} {v : (SR Int32)} {n : Nat} {g : CG} {d : CD} {x0 : Nat} {x1 : Int32} {l : Launch} (hf : f_X1_image n x0 x1 g d = some v) : Met l yX1_image (ws_ yX1_image cX1_image 3 (some .boolean)) (rmC 6 v.2.2.2.1 v.2.2.2.2) (va_Pc [.ref x0, .int x1] (CU T g d)) (Qc T (some (.int v.1)) v.2.1 v.2.2.1) v.2.2.2.1 v.2.2.2.2 (cA T) :=
  c_metS [.ref x0, .int x1] RX1 (by decide) rfl (Nat.le_of_ble_eq_true rfl) (fun K hl hR hrt hnm C B hQ => w_X1_image_E n C B hrt hR hQ _ _ _ _ 0 0 _ _ (Nat.zero_add _).symm (Nat.zero_add _).symm hf)
def f_X1_restore (n : Nat) (x0 : Nat) (x1 : Int32) (g : CG) (d : CD) : Option (SR Int32) := if (f_X1_isIn x1 (0 : Int32) (1 : Int32)) = 0 then (some ((0 : Int32), g, d, 0, 0)) else (if ht g x0 = 1 then (hr g x0 40).bind fun p3 => if ht g p3 = 106 then if inb x1 (hn g p3) = true then optc (hr g p3 (Int32.toNatClampNeg x1)) (some ((0 : Int32), g, d, 0, 0)) (fun p6 => (hr g p3 (Int32.toNatClampNeg x1)).bind fun p7 => if ht g p7 = 19 then (hr g p7 0).bind fun p9 => ev (wr g x0 6 (some p9)) fun ga10 => if ht ga10 x0 = 1 then (hr ga10 x0 7).bind fun p12 => if ht ga10 p7 = 19 then (hr ga10 p7 1).bind fun p14 => if ht ga10 p12 = 4 then (f_X4_be n ga10 p12 p14 d).bind fun r16 => optc (hr ga10 p7 2) (ev (wr ga10 x0 39 none) fun ga18 => if ht ga18 x0 = 1 then ev (wi r16 x0 13 (0 : Int32)) fun da20 => some ((1 : Int32), ga18, da20, 0, 0) else none) (fun p17 => ev (wr ga10 x0 39 (some p17)) fun ga21 => if ht ga21 x0 = 1 then ev (wi r16 x0 13 (0 : Int32)) fun da23 => some ((1 : Int32), ga21, da23, 0, 0) else none) else none else none else none else none) else none else none else none)
set_option maxHeartbeats 4000000 in
theorem w_X1_restore_E {K : KT} {T : CT} {r : Int32} {g9 : CG} {d9 : CD} {c1 s1 : Nat} (n : Nat) (C : Kok K cX1_restore 3 RX1) (B : CB K T) (hrt : (kMe K).sig.returnType = (some .boolean)) (dK : kR K = rmC 4 c1 s1) (hQ : KQc K T (some (.int r)) c1 s1 g9 d9) (x0 : Nat) (x1 : Int32) (g : CG) (d : CD) (c0 s0 k m9 : Nat) (hc : c1 = c0 + k) (hs : s1 = s0 + m9) (hf : f_X1_restore n x0 x1 g d = some (r, g9, d9, k, m9)) : XJ K 3 (Wc K T c0 s0 g d) 0 [(0, .ref x0), (1, .int x1)] [] := by
  unfold f_X1_restore at hf
  refine x_iload_n C dX1_restore_0 1 rfl ?_
  refine x_iconst (0 : Int32) C dX1_restore_1 (by decide) ?_
  refine x_iconst (1 : Int32) C dX1_restore_2 (by decide) ?_
  refine k_X1_isIn_X1 C B dK (Nat.le_of_ble_eq_true rfl) (by omega) rfl (Nat.le_of_ble_eq_true rfl) dX1_restore_3 ?_
  refine x_if_eq (tgt := 18) C dX1_restore_6 (by decide) (fun w1 => ?_) (fun w1 => ?_)
  · have hf := pf_t w1 hf
    refine x_iconst (0 : Int32) C dX1_restore_18 (by decide) ?_
    obtain ⟨rfl, rfl, rfl, rfl, rfl⟩ := sr_inj hf
    refine c_cs (c0 := c1) (s0 := s1) (by omega) (by omega) ?_
    exact c_zret C hrt (Or.inl rfl) hQ dX1_restore_19
  · have hf := pf_f w1 hf
    refine x_aload_n C dX1_restore_9 0 rfl ?_
    obtain ⟨t2, hf⟩ := pf_ch hf
    obtain ⟨p3, ep3, hf⟩ := pf_b hf
    refine cg1_40 C B t2 (flo C q659) fsm ep3 dX1_restore_10 ?_
    refine x_iload_n C dX1_restore_13 1 rfl ?_
    obtain ⟨t4, hf⟩ := pf_ch hf
    obtain ⟨h5, hf⟩ := pf_in hf
    rcases ep6 : hr g p3 (Int32.toNatClampNeg x1) with _ | p6
    · have hf := pf_on ep6 hf
      refine ca_aldn6 C B t4 h5 ep6 dX1_restore_14 ?_
      refine x_ifnonnullN C dX1_restore_15 ?_
      refine x_iconst (0 : Int32) C dX1_restore_18 (by decide) ?_
      obtain ⟨rfl, rfl, rfl, rfl, rfl⟩ := sr_inj hf
      refine c_cs (c0 := c1) (s0 := s1) (by omega) (by omega) ?_
      exact c_zret C hrt (Or.inl rfl) hQ dX1_restore_19
    · have hf := pf_os ep6 hf
      refine ca_ald6 C B t4 h5 ep6 dX1_restore_14 ?_
      refine x_ifnonnull (tgt := 20) C dX1_restore_15 (by decide) ?_
      refine x_aload_n C dX1_restore_20 0 rfl ?_
      refine cg1_40 C B t2 (flo C q659) fsm ep3 dX1_restore_21 ?_
      refine x_iload_n C dX1_restore_24 1 rfl ?_
      obtain ⟨p7, ep7, hf⟩ := pf_b hf
      refine ca_ald6 C B t4 h5 ep7 dX1_restore_25 ?_
      refine x_astore_n (L' := [(0, .ref x0), (2, .ref p7)]) C dX1_restore_26 (Nat.le_of_ble_eq_true rfl) [1, 0] rfl ?_
      refine x_aload_n C dX1_restore_27 0 rfl ?_
      refine x_aload_n C dX1_restore_28 1 rfl ?_
      obtain ⟨t8, hf⟩ := pf_ch hf
      obtain ⟨p9, ep9, hf⟩ := pf_b hf
      refine cg19_0 C B t8 (fln B q1686) fsm ep9 dX1_restore_29 ?_
      refine cpr1_6 C B t2 (flo C q621) fsm dX1_restore_32 ?_
      obtain ⟨ga10, ega10, hf⟩ := pf_e hf
      refine c_renG ega10 ?_
      refine x_aload_n C dX1_restore_35 0 rfl ?_
      obtain ⟨t11, hf⟩ := pf_ch hf
      obtain ⟨p12, ep12, hf⟩ := pf_b hf
      refine cg1_7 C B t11 (flo C q624) fsm ep12 dX1_restore_36 ?_
      refine x_aload_n C dX1_restore_39 1 rfl ?_
      obtain ⟨t13, hf⟩ := pf_ch hf
      obtain ⟨p14, ep14, hf⟩ := pf_b hf
      refine cg19_1 C B t13 (fln B q1688) fsm ep14 dX1_restore_40 ?_
      obtain ⟨t15, hf⟩ := pf_ch hf
      obtain ⟨r16, er16, hf⟩ := pf_b hf
      refine k_X4_be_X1 C B t15 dK (Nat.le_of_ble_eq_true rfl) (by omega) er16 (Nat.le_of_ble_eq_true rfl) dX1_restore_43 ?_
      refine x_aload_n C dX1_restore_46 0 rfl ?_
      refine x_aload_n C dX1_restore_47 1 rfl ?_
      rcases ep17 : hr ga10 p7 2 with _ | p17
      · have hf := pf_on ep17 hf
        refine cgn19_2 C B t13 (fln B q1689) fsm ep17 dX1_restore_48 ?_
        refine cprn1_39 C B t11 (flo C q658) fsm dX1_restore_51 ?_
        obtain ⟨ga18, ega18, hf⟩ := pf_e hf
        refine c_renG ega18 ?_
        refine x_aload_n C dX1_restore_54 0 rfl ?_
        refine x_iconst (0 : Int32) C dX1_restore_55 (by decide) ?_
        obtain ⟨t19, hf⟩ := pf_ch hf
        refine cp1_13 C B t19 (flo C q632) fsm dX1_restore_56 ?_
        obtain ⟨da20, eda20, hf⟩ := pf_e hf
        refine c_ren eda20 ?_
        refine x_iconst (1 : Int32) C dX1_restore_59 (by decide) ?_
        obtain ⟨rfl, rfl, rfl, rfl, rfl⟩ := sr_inj hf
        refine c_cs (c0 := c1) (s0 := s1) (by omega) (by omega) ?_
        exact c_zret C hrt (Or.inr rfl) hQ dX1_restore_60
      · have hf := pf_os ep17 hf
        refine cg19_2 C B t13 (fln B q1689) fsm ep17 dX1_restore_48 ?_
        refine cpr1_39 C B t11 (flo C q658) fsm dX1_restore_51 ?_
        obtain ⟨ga21, ega21, hf⟩ := pf_e hf
        refine c_renG ega21 ?_
        refine x_aload_n C dX1_restore_54 0 rfl ?_
        refine x_iconst (0 : Int32) C dX1_restore_55 (by decide) ?_
        obtain ⟨t22, hf⟩ := pf_ch hf
        refine cp1_13 C B t22 (flo C q632) fsm dX1_restore_56 ?_
        obtain ⟨da23, eda23, hf⟩ := pf_e hf
        refine c_ren eda23 ?_
        refine x_iconst (1 : Int32) C dX1_restore_59 (by decide) ?_
        obtain ⟨rfl, rfl, rfl, rfl, rfl⟩ := sr_inj hf
        refine c_cs (c0 := c1) (s0 := s1) (by omega) (by omega) ?_
        exact c_zret C hrt (Or.inr rfl) hQ dX1_restore_60
theorem met_X1_restore {T : CT} {v : (SR Int32)} {n : Nat} {g : CG} {d : CD} {x0 : Nat} {x1 : Int32} {l : Launch} (hf : f_X1_restore n x0 x1 g d = some v) : Met l yX1_restore (ws_ yX1_restore cX1_restore 3 (some .boolean)) (rmC 4 v.2.2.2.1 v.2.2.2.2) (va_Pc [.ref x0, .int x1] (CU T g d)) (Qc T (some (.int v.1)) v.2.1 v.2.2.1) v.2.2.2.1 v.2.2.2.2 (cA T) :=
  c_metS [.ref x0, .int x1] RX1 (by decide) rfl (Nat.le_of_ble_eq_true rfl) (fun K hl hR hrt hnm C B hQ => w_X1_restore_E n C B hrt hR hQ _ _ _ _ 0 0 _ _ (Nat.zero_add _).symm (Nat.zero_add _).symm hf)
theorem k_X1_isTaste_X1 {K : KT} {T : CT} {c0 s0 c1 s1 dk : Nat} {cc : ByteArray} {nL pc : Nat} {L : List (Nat × Value)} {rest : List Value} {g : CG} {d : CD} {v : Int32} {n : Nat} {x0 : Nat} {x1 : Int32} (C : Kok K cc nL RX1) (B : CB K T) (hta : ht g x0 = 1) (dK : kR K = rmC dk c1 s1) (hd : 3 + 1 ≤ dk) (hcs : c0 + 0 ≤ c1 ∧ s0 + 0 ≤ s1) (hf : f_X1_isTaste n g d x0 x1 = some v) (hW : (rest.map fun v => v.category).sum ≤ 8) (dd : decode cc pc = .ok (.invokevirtual 435, 3)) (kk2 : XJ K nL (Wc K T c0 s0 g d) (pc + 3) L ((.int v) :: rest)) : XJ K nL (Wc K T c0 s0 g d) pc L (.int x1 :: .ref x0 :: rest) :=
  c_callV (rest := rest) (v := (some (.int v))) [.int x1] 1 rfl C B hta (by decide) (by decide) rfl dK hd (Nat.le_of_ble_eq_true rfl) hcs (lw_V q1236 q1238 qs29 q121 q1239) (by decide +kernel) (met_X1_isTaste hf) rfl hW dd kk2
def f_X1_taste_L137 (n : Nat) (k100 : Nat → Int32 → Int32 → Nat → Int32 → CG → CD → Option (SR Int32)) : Nat → Nat → Int32 → Int32 → Nat → Int32 → Int32 → CG → CD → Option (SR Int32)
  | 0, _, _, _, _, _, _, _, _ => none
  | m + 1, x0, x2, x3, x4, x5, x6, g, d => if ht g x0 = 1 then (hr g x0 6).bind fun p2 => if ht g p2 = 3 then if (hi d p2 19) ≤ x6 then (k100 x0 x2 x3 x4 (x5 + (1 : Int32)) g d) else (if (f_X1_has x5 x6) = 0 then (f_X1_taste_L137 n k100 m x0 x2 x3 x4 x5 (x6 + (1 : Int32)) g d) else (if ht g x4 = 100 then if inb x6 (hn g x4) = true then ev (wi d x4 (Int32.toNatClampNeg x6) ((hi d x4 (Int32.toNatClampNeg x6)) + (1 : Int32))) fun da8 => f_X1_taste_L137 n k100 m x0 x2 x3 x4 x5 (x6 + (1 : Int32)) g da8 else none else none)) else none else none
set_option maxHeartbeats 4000000 in
theorem w_X1_taste_137 {K : KT} {T : CT} {r : Int32} {g9 : CG} {d9 : CD} {c1 s1 : Nat} (n : Nat) (k100 : Nat → Int32 → Int32 → Nat → Int32 → CG → CD → Option (SR Int32)) (C : Kok K cX1_taste 8 RX1) (B : CB K T) (hrt : (kMe K).sig.returnType = (some .int)) (dK : kR K = rmC 4 c1 s1) (hQ : KQc K T (some (.int r)) c1 s1 g9 d9)  (hk100 : ∀ (x0 : Nat) (x2 : Int32) (x3 : Int32) (x4 : Nat) (x5 : Int32) (g : CG) (d : CD) (c0 s0 k m9 : Nat), c1 = c0 + k → s1 = s0 + m9 → k100 x0 x2 x3 x4 x5 g d = some (r, g9, d9, k, m9) → XJ K 8 (Wc K T c0 s0 g d) 100 [(0, .ref x0), (2, .int x2), (3, .int x3), (4, .ref x4), (5, .int x5)] []) : ∀ (m : Nat) (x0 : Nat) (x2 : Int32) (x3 : Int32) (x4 : Nat) (x5 : Int32) (x6 : Int32) (g : CG) (d : CD) (c0 s0 k m9 : Nat) (hc : c1 = c0 + k) (hs : s1 = s0 + m9) (hf : f_X1_taste_L137 n k100 m x0 x2 x3 x4 x5 x6 g d = some (r, g9, d9, k, m9)), XJ K 8 (Wc K T c0 s0 g d) 137 [(0, .ref x0), (2, .int x2), (3, .int x3), (4, .ref x4), (5, .int x5), (6, .int x6)] [] := by
  intro m
  induction m with
  | zero => intro x0 x2 x3 x4 x5 x6 g d c0 s0 k m9 hc hs hf; cases hf
  | succ m ih =>
    intro x0 x2 x3 x4 x5 x6 g d c0 s0 k m9 hc hs hf
    rw [f_X1_taste_L137] at hf
    refine x_iload C dX1_taste_137 5 rfl ?_
    refine x_aload_n C dX1_taste_139 0 rfl ?_
    obtain ⟨t1, hf⟩ := pf_ch hf
    obtain ⟨p2, ep2, hf⟩ := pf_b hf
    refine cg1_6 C B t1 (flo C q621) fsm ep2 dX1_taste_140 ?_
    obtain ⟨t3, hf⟩ := pf_ch hf
    refine cg3_19 C B t3 (fln B q333) fsm dX1_taste_143 ?_
    refine x_icmp_ge (tgt := 174) C dX1_taste_146 (by decide) (fun w4 => ?_) (fun w4 => ?_)
    · have hf := pf_t w4 hf
      refine x_inc (c := (1 : Int32)) (L' := [(0, .ref x0), (2, .int x2), (3, .int x3), (4, .ref x4), (5, .int (x5 + (1 : Int32)))]) C dX1_taste_174 4 rfl (by decide) (Nat.le_of_ble_eq_true rfl) [1, 2, 3, 4, 0] rfl ?_
      refine x_goto (tgt := 100) C dX1_taste_177 (by decide) ?_
      exact hk100 x0 x2 x3 x4 (x5 + (1 : Int32)) _ _ _ _ _ _ (by omega) (by omega) hf
    · have hf := pf_f w4 hf
      refine x_iload C dX1_taste_149 4 rfl ?_
      refine x_iload C dX1_taste_151 5 rfl ?_
      refine k_X1_has_X1 C B dK (Nat.le_of_ble_eq_true rfl) (by omega) rfl (Nat.le_of_ble_eq_true rfl) dX1_taste_153 ?_
      refine x_if_eq (tgt := 168) C dX1_taste_156 (by decide) (fun w5 => ?_) (fun w5 => ?_)
      · have hf := pf_t w5 hf
        refine x_inc (c := (1 : Int32)) (L' := [(0, .ref x0), (2, .int x2), (3, .int x3), (4, .ref x4), (5, .int x5), (6, .int (x6 + (1 : Int32)))]) C dX1_taste_168 5 rfl (by decide) (Nat.le_of_ble_eq_true rfl) [1, 2, 3, 4, 5, 0] rfl ?_
        refine x_goto (tgt := 137) C dX1_taste_171 (by decide) ?_
        exact ih x0 x2 x3 x4 x5 (x6 + (1 : Int32)) _ _ _ _ _ _ (by omega) (by omega) hf
      · have hf := pf_f w5 hf
        refine x_aload C dX1_taste_159 3 rfl ?_
        refine x_iload C dX1_taste_161 5 rfl ?_
        refine x_dup2_11 C dX1_taste_163 rfl rfl ?_
        obtain ⟨t6, hf⟩ := pf_ch hf
        obtain ⟨h7, hf⟩ := pf_in hf
        refine ca_ild C B t6 h7 dX1_taste_164 ?_
        refine x_iconst (1 : Int32) C dX1_taste_165 (by decide) ?_
        refine x_iadd C dX1_taste_166 ?_
        refine ca_ist C B t6 h7 dX1_taste_167 ?_
        obtain ⟨da8, eda8, hf⟩ := pf_e hf
        refine c_ren eda8 ?_
        refine x_inc (c := (1 : Int32)) (L' := [(0, .ref x0), (2, .int x2), (3, .int x3), (4, .ref x4), (5, .int x5), (6, .int (x6 + (1 : Int32)))]) C dX1_taste_168 5 rfl (by decide) (Nat.le_of_ble_eq_true rfl) [1, 2, 3, 4, 5, 0] rfl ?_
        refine x_goto (tgt := 137) C dX1_taste_171 (by decide) ?_
        exact ih x0 x2 x3 x4 x5 (x6 + (1 : Int32)) _ _ _ _ _ _ (by omega) (by omega) hf
def f_X1_taste_L207 (n : Nat) : Nat → Nat → Int32 → Nat → Int32 → Int32 → CG → CD → Option (SR Int32)
  | 0, _, _, _, _, _, _, _ => none
  | m + 1, x0, x2, x4, x5, x6, g, d => if ht g x0 = 1 then (hr g x0 6).bind fun p2 => if ht g p2 = 3 then if (hi d p2 20) ≤ x6 then (some (x2, g, d, 0, 0)) else ((hr g x0 7).bind fun p5 => if ht g p5 = 4 then (hr g p5 0).bind fun p7 => if ht g p7 = 105 then if inb x6 (hn g p7) = true then (hr g p7 (Int32.toNatClampNeg x6)).bind fun p10 => if ht g p10 = 5 then (f_X5_isGone g d p10).bind fun r12 => if r12 = 0 then (if ht g x4 = 100 then if inb (hi d p10 0) (hn g x4) = true then ev (j_abs (x2 - ((2 : Int32) * (hi d x4 (Int32.toNatClampNeg (hi d p10 0)))))) fun v16 => if (hi d x0 28) = (-1 : Int32) then (ev (wi d x0 28 x6) fun da18 => f_X1_taste_L207 n m x0 x2 x4 v16 (x6 + (1 : Int32)) g da18) else (if v16 < x5 then (ev (wi d x0 28 x6) fun da20 => f_X1_taste_L207 n m x0 x2 x4 v16 (x6 + (1 : Int32)) g da20) else (f_X1_taste_L207 n m x0 x2 x4 x5 (x6 + (1 : Int32)) g d)) else none else none) else (f_X1_taste_L207 n m x0 x2 x4 x5 (x6 + (1 : Int32)) g d) else none else none else none else none) else none else none
set_option maxHeartbeats 4000000 in
theorem w_X1_taste_207 {K : KT} {T : CT} {r : Int32} {g9 : CG} {d9 : CD} {c1 s1 : Nat} (n : Nat) (C : Kok K cX1_taste 8 RX1) (B : CB K T) (hrt : (kMe K).sig.returnType = (some .int)) (dK : kR K = rmC 4 c1 s1) (hQ : KQc K T (some (.int r)) c1 s1 g9 d9) : ∀ (m : Nat) (x0 : Nat) (x2 : Int32) (x4 : Nat) (x5 : Int32) (x6 : Int32) (g : CG) (d : CD) (c0 s0 k m9 : Nat) (hc : c1 = c0 + k) (hs : s1 = s0 + m9) (hf : f_X1_taste_L207 n m x0 x2 x4 x5 x6 g d = some (r, g9, d9, k, m9)), XJ K 8 (Wc K T c0 s0 g d) 207 [(0, .ref x0), (2, .int x2), (4, .ref x4), (5, .int x5), (6, .int x6)] [] := by
  intro m
  induction m with
  | zero => intro x0 x2 x4 x5 x6 g d c0 s0 k m9 hc hs hf; cases hf
  | succ m ih =>
    intro x0 x2 x4 x5 x6 g d c0 s0 k m9 hc hs hf
    rw [f_X1_taste_L207] at hf
    refine x_iload C dX1_taste_207 4 rfl ?_
    refine x_aload_n C dX1_taste_209 0 rfl ?_
    obtain ⟨t1, hf⟩ := pf_ch hf
    obtain ⟨p2, ep2, hf⟩ := pf_b hf
    refine cg1_6 C B t1 (flo C q621) fsm ep2 dX1_taste_210 ?_
    obtain ⟨t3, hf⟩ := pf_ch hf
    refine cg3_20 C B t3 (fln B q337) fsm dX1_taste_213 ?_
    refine x_icmp_ge (tgt := 297) C dX1_taste_216 (by decide) (fun w4 => ?_) (fun w4 => ?_)
    · have hf := pf_t w4 hf
      refine x_iload_n C dX1_taste_297 1 rfl ?_
      obtain ⟨rfl, rfl, rfl, rfl, rfl⟩ := sr_inj hf
      refine c_cs (c0 := c1) (s0 := s1) (by omega) (by omega) ?_
      exact c_iret C hrt hQ dX1_taste_298
    · have hf := pf_f w4 hf
      refine x_aload_n C dX1_taste_219 0 rfl ?_
      obtain ⟨p5, ep5, hf⟩ := pf_b hf
      refine cg1_7 C B t1 (flo C q624) fsm ep5 dX1_taste_220 ?_
      obtain ⟨t6, hf⟩ := pf_ch hf
      obtain ⟨p7, ep7, hf⟩ := pf_b hf
      refine cg4_0 C B t6 (fln B q451) fsm ep7 dX1_taste_223 ?_
      refine x_iload C dX1_taste_226 4 rfl ?_
      obtain ⟨t8, hf⟩ := pf_ch hf
      obtain ⟨h9, hf⟩ := pf_in hf
      obtain ⟨p10, ep10, hf⟩ := pf_b hf
      refine ca_ald5 C B t8 h9 ep10 dX1_taste_228 ?_
      obtain ⟨t11, hf⟩ := pf_ch hf
      obtain ⟨r12, er12, hf⟩ := pf_b hf
      refine k_X5_isGone_X1 C B t11 dK (Nat.le_of_ble_eq_true rfl) (by omega) er12 (Nat.le_of_ble_eq_true rfl) dX1_taste_229 ?_
      refine x_if_eq (tgt := 238) C dX1_taste_232 (by decide) (fun w13 => ?_) (fun w13 => ?_)
      · have hf := pf_t w13 hf
        refine x_iload_n C dX1_taste_238 1 rfl ?_
        refine x_iconst (2 : Int32) C dX1_taste_239 (by decide) ?_
        refine x_aload C dX1_taste_240 2 rfl ?_
        refine x_aload_n C dX1_taste_242 0 rfl ?_
        refine cg1_7 C B t1 (flo C q624) fsm ep5 dX1_taste_243 ?_
        refine cg4_0 C B t6 (fln B q451) fsm ep7 dX1_taste_246 ?_
        refine x_iload C dX1_taste_249 4 rfl ?_
        refine ca_ald5 C B t8 h9 ep10 dX1_taste_251 ?_
        refine cg5_0 C B t11 (fln B q412) fsm dX1_taste_252 ?_
        obtain ⟨t14, hf⟩ := pf_ch hf
        obtain ⟨h15, hf⟩ := pf_in hf
        refine ca_ild C B t14 h15 dX1_taste_255 ?_
        refine x_imul C dX1_taste_256 ?_
        refine x_isub C dX1_taste_257 ?_
        refine c_mabs C q1240 dK (Nat.le_of_ble_eq_true rfl) (by omega) (Nat.le_of_ble_eq_true rfl) dX1_taste_258 ?_
        obtain ⟨v16, ev16, hf⟩ := pf_e hf
        refine x_topir ev16 ?_
        refine x_istore (L' := [(0, .ref x0), (2, .int x2), (4, .ref x4), (5, .int x5), (6, .int x6), (7, .int v16)]) C dX1_taste_261 (Nat.le_of_ble_eq_true rfl) [1, 2, 3, 4, 5, 0] rfl ?_
        refine x_aload_n C dX1_taste_263 0 rfl ?_
        refine cg1_28 C B t1 (flo C q647) fsm dX1_taste_264 ?_
        refine x_iconst (-1 : Int32) C dX1_taste_267 (by decide) ?_
        refine x_icmp_eq (tgt := 281) C dX1_taste_268 (by decide) (fun w17 => ?_) (fun w17 => ?_)
        · have hf := pf_t w17 hf
          refine x_iload C dX1_taste_281 5 rfl ?_
          refine x_istore (L' := [(0, .ref x0), (2, .int x2), (4, .ref x4), (5, .int v16), (6, .int x6)]) C dX1_taste_283 (Nat.le_of_ble_eq_true rfl) [1, 2, 3, 0, 4] rfl ?_
          refine x_aload_n C dX1_taste_285 0 rfl ?_
          refine x_iload C dX1_taste_286 4 rfl ?_
          refine cp1_28 C B t1 (flo C q647) fsm dX1_taste_288 ?_
          obtain ⟨da18, eda18, hf⟩ := pf_e hf
          refine c_ren eda18 ?_
          refine x_inc (c := (1 : Int32)) (L' := [(0, .ref x0), (2, .int x2), (4, .ref x4), (5, .int v16), (6, .int (x6 + (1 : Int32)))]) C dX1_taste_291 4 rfl (by decide) (Nat.le_of_ble_eq_true rfl) [1, 2, 3, 4, 0] rfl ?_
          refine x_goto (tgt := 207) C dX1_taste_294 (by decide) ?_
          exact ih x0 x2 x4 v16 (x6 + (1 : Int32)) _ _ _ _ _ _ (by omega) (by omega) hf
        · have hf := pf_f w17 hf
          refine x_iload C dX1_taste_271 5 rfl ?_
          refine x_iload C dX1_taste_273 3 rfl ?_
          refine x_icmp_lt (tgt := 281) C dX1_taste_275 (by decide) (fun w19 => ?_) (fun w19 => ?_)
          · have hf := pf_t w19 hf
            refine x_iload C dX1_taste_281 5 rfl ?_
            refine x_istore (L' := [(0, .ref x0), (2, .int x2), (4, .ref x4), (5, .int v16), (6, .int x6)]) C dX1_taste_283 (Nat.le_of_ble_eq_true rfl) [1, 2, 3, 0, 4] rfl ?_
            refine x_aload_n C dX1_taste_285 0 rfl ?_
            refine x_iload C dX1_taste_286 4 rfl ?_
            refine cp1_28 C B t1 (flo C q647) fsm dX1_taste_288 ?_
            obtain ⟨da20, eda20, hf⟩ := pf_e hf
            refine c_ren eda20 ?_
            refine x_inc (c := (1 : Int32)) (L' := [(0, .ref x0), (2, .int x2), (4, .ref x4), (5, .int v16), (6, .int (x6 + (1 : Int32)))]) C dX1_taste_291 4 rfl (by decide) (Nat.le_of_ble_eq_true rfl) [1, 2, 3, 4, 0] rfl ?_
            refine x_goto (tgt := 207) C dX1_taste_294 (by decide) ?_
            exact ih x0 x2 x4 v16 (x6 + (1 : Int32)) _ _ _ _ _ _ (by omega) (by omega) hf
          · have hf := pf_f w19 hf
            refine x_goto (tgt := 291) C dX1_taste_278 (by decide) ?_
            refine x_inc (c := (1 : Int32)) (L' := [(0, .ref x0), (2, .int x2), (4, .ref x4), (5, .int x5), (6, .int (x6 + (1 : Int32)))]) C dX1_taste_291 4 rfl (by decide) (Nat.le_of_ble_eq_true rfl) [1, 2, 3, 4, 0] rfl ?_
            refine x_goto (tgt := 207) C dX1_taste_294 (by decide) ?_
            exact ih x0 x2 x4 x5 (x6 + (1 : Int32)) _ _ _ _ _ _ (by omega) (by omega) hf
      · have hf := pf_f w13 hf
        refine x_goto (tgt := 291) C dX1_taste_235 (by decide) ?_
        refine x_inc (c := (1 : Int32)) (L' := [(0, .ref x0), (2, .int x2), (4, .ref x4), (5, .int x5), (6, .int (x6 + (1 : Int32)))]) C dX1_taste_291 4 rfl (by decide) (Nat.le_of_ble_eq_true rfl) [1, 2, 3, 4, 0] rfl ?_
        refine x_goto (tgt := 207) C dX1_taste_294 (by decide) ?_
        exact ih x0 x2 x4 x5 (x6 + (1 : Int32)) _ _ _ _ _ _ (by omega) (by omega) hf
def f_X1_taste_L100 (n : Nat) : Nat → Nat → Int32 → Int32 → Nat → Int32 → CG → CD → Option (SR Int32)
  | 0, _, _, _, _, _, _, _ => none
  | m + 1, x0, x2, x3, x4, x5, g, d => if ht g x0 = 1 then (hr g x0 6).bind fun p2 => if ht g p2 = 3 then if ((1 : Int32) <<< ((hi d p2 19) &&& 31)) ≤ x5 then (if x2 = 0 then (some ((0 : Int32), g, d, 0, 0)) else (ev (wi d x0 29 (1 : Int32)) fun da6 => ev (wi da6 x0 27 x3) fun da7 => ev (wi da7 x0 28 (-1 : Int32)) fun da8 => f_X1_taste_L207 n n x0 x2 x4 (0 : Int32) (0 : Int32) g da8)) else ((f_X1_isTaste n g d x0 x5).bind fun r9 => if r9 = 0 then (f_X1_taste_L100 n m x0 x2 x3 x4 (x5 + (1 : Int32)) g d) else (ev (x3 &&& x5) fun v11 => f_X1_taste_L137 n (f_X1_taste_L100 n m) n x0 (x2 + (1 : Int32)) v11 x4 x5 (0 : Int32) g d)) else none else none
set_option maxHeartbeats 4000000 in
theorem w_X1_taste_100 {K : KT} {T : CT} {r : Int32} {g9 : CG} {d9 : CD} {c1 s1 : Nat} (n : Nat) (C : Kok K cX1_taste 8 RX1) (B : CB K T) (hrt : (kMe K).sig.returnType = (some .int)) (dK : kR K = rmC 4 c1 s1) (hQ : KQc K T (some (.int r)) c1 s1 g9 d9) : ∀ (m : Nat) (x0 : Nat) (x2 : Int32) (x3 : Int32) (x4 : Nat) (x5 : Int32) (g : CG) (d : CD) (c0 s0 k m9 : Nat) (hc : c1 = c0 + k) (hs : s1 = s0 + m9) (hf : f_X1_taste_L100 n m x0 x2 x3 x4 x5 g d = some (r, g9, d9, k, m9)), XJ K 8 (Wc K T c0 s0 g d) 100 [(0, .ref x0), (2, .int x2), (3, .int x3), (4, .ref x4), (5, .int x5)] [] := by
  intro m
  induction m with
  | zero => intro x0 x2 x3 x4 x5 g d c0 s0 k m9 hc hs hf; cases hf
  | succ m ih =>
    intro x0 x2 x3 x4 x5 g d c0 s0 k m9 hc hs hf
    rw [f_X1_taste_L100] at hf
    refine x_iload C dX1_taste_100 4 rfl ?_
    refine x_iconst (1 : Int32) C dX1_taste_102 (by decide) ?_
    refine x_aload_n C dX1_taste_103 0 rfl ?_
    obtain ⟨t1, hf⟩ := pf_ch hf
    obtain ⟨p2, ep2, hf⟩ := pf_b hf
    refine cg1_6 C B t1 (flo C q621) fsm ep2 dX1_taste_104 ?_
    obtain ⟨t3, hf⟩ := pf_ch hf
    refine cg3_19 C B t3 (fln B q333) fsm dX1_taste_107 ?_
    refine x_ishl C dX1_taste_110 ?_
    refine x_icmp_ge (tgt := 180) C dX1_taste_111 (by decide) (fun w4 => ?_) (fun w4 => ?_)
    · have hf := pf_t w4 hf
      refine x_iload_n C dX1_taste_180 1 rfl ?_
      refine x_if_ne (tgt := 186) C dX1_taste_181 (by decide) (fun w5 => ?_) (fun w5 => ?_)
      · have hf := pf_f w5 hf
        refine x_aload_n C dX1_taste_186 0 rfl ?_
        refine x_iconst (1 : Int32) C dX1_taste_187 (by decide) ?_
        refine cp1_29 C B t1 (flo C q648) fsm (Or.inr rfl) dX1_taste_188 ?_
        obtain ⟨da6, eda6, hf⟩ := pf_e hf
        refine c_ren eda6 ?_
        refine x_aload_n C dX1_taste_191 0 rfl ?_
        refine x_iload_n C dX1_taste_192 2 rfl ?_
        refine cp1_27 C B t1 (flo C q646) fsm dX1_taste_193 ?_
        obtain ⟨da7, eda7, hf⟩ := pf_e hf
        refine c_ren eda7 ?_
        refine x_aload_n C dX1_taste_196 0 rfl ?_
        refine x_iconst (-1 : Int32) C dX1_taste_197 (by decide) ?_
        refine cp1_28 C B t1 (flo C q647) fsm dX1_taste_198 ?_
        obtain ⟨da8, eda8, hf⟩ := pf_e hf
        refine c_ren eda8 ?_
        refine x_iconst (0 : Int32) C dX1_taste_201 (by decide) ?_
        refine x_istore (L' := [(0, .ref x0), (2, .int x2), (4, .ref x4), (5, .int (0 : Int32))]) C dX1_taste_202 (Nat.le_of_ble_eq_true rfl) [1, 2, 4, 0] rfl ?_
        refine x_iconst (0 : Int32) C dX1_taste_204 (by decide) ?_
        refine x_istore (L' := [(0, .ref x0), (2, .int x2), (4, .ref x4), (5, .int (0 : Int32)), (6, .int (0 : Int32))]) C dX1_taste_205 (Nat.le_of_ble_eq_true rfl) [1, 2, 3, 4, 0] rfl ?_
        exact w_X1_taste_207 n C B hrt dK hQ n x0 x2 x4 (0 : Int32) (0 : Int32) _ _ _ _ _ _ (by omega) (by omega) hf
      · have hf := pf_t w5 hf
        refine x_iconst (0 : Int32) C dX1_taste_184 (by decide) ?_
        obtain ⟨rfl, rfl, rfl, rfl, rfl⟩ := sr_inj hf
        refine c_cs (c0 := c1) (s0 := s1) (by omega) (by omega) ?_
        exact c_iret C hrt hQ dX1_taste_185
    · have hf := pf_f w4 hf
      refine x_aload_n C dX1_taste_114 0 rfl ?_
      refine x_iload C dX1_taste_115 4 rfl ?_
      obtain ⟨r9, er9, hf⟩ := pf_b hf
      refine k_X1_isTaste_X1 C B t1 dK (Nat.le_of_ble_eq_true rfl) (by omega) er9 (Nat.le_of_ble_eq_true rfl) dX1_taste_117 ?_
      refine x_if_ne (tgt := 126) C dX1_taste_120 (by decide) (fun w10 => ?_) (fun w10 => ?_)
      · have hf := pf_f w10 hf
        refine x_inc (c := (1 : Int32)) (L' := [(0, .ref x0), (2, .int (x2 + (1 : Int32))), (3, .int x3), (4, .ref x4), (5, .int x5)]) C dX1_taste_126 1 rfl (by decide) (Nat.le_of_ble_eq_true rfl) [1, 0, 2, 3, 4] rfl ?_
        refine x_iload_n C dX1_taste_129 2 rfl ?_
        refine x_iload C dX1_taste_130 4 rfl ?_
        refine x_iand C dX1_taste_132 ?_
        obtain ⟨v11, ev11, hf⟩ := pf_e hf
        refine x_topir ev11 ?_
        refine x_istore_n (L' := [(0, .ref x0), (2, .int (x2 + (1 : Int32))), (3, .int v11), (4, .ref x4), (5, .int x5)]) C dX1_taste_133 (Nat.le_of_ble_eq_true rfl) [1, 2, 0, 3, 4] rfl ?_
        refine x_iconst (0 : Int32) C dX1_taste_134 (by decide) ?_
        refine x_istore (L' := [(0, .ref x0), (2, .int (x2 + (1 : Int32))), (3, .int v11), (4, .ref x4), (5, .int x5), (6, .int (0 : Int32))]) C dX1_taste_135 (Nat.le_of_ble_eq_true rfl) [1, 2, 3, 4, 5, 0] rfl ?_
        exact w_X1_taste_137 n _ C B hrt dK hQ ih n x0 (x2 + (1 : Int32)) v11 x4 x5 (0 : Int32) _ _ _ _ _ _ (by omega) (by omega) hf
      · have hf := pf_t w10 hf
        refine x_goto (tgt := 174) C dX1_taste_123 (by decide) ?_
        refine x_inc (c := (1 : Int32)) (L' := [(0, .ref x0), (2, .int x2), (3, .int x3), (4, .ref x4), (5, .int (x5 + (1 : Int32)))]) C dX1_taste_174 4 rfl (by decide) (Nat.le_of_ble_eq_true rfl) [1, 2, 3, 4, 0] rfl ?_
        refine x_goto (tgt := 100) C dX1_taste_177 (by decide) ?_
        exact ih x0 x2 x3 x4 (x5 + (1 : Int32)) _ _ _ _ _ _ (by omega) (by omega) hf
def f_X1_taste_L39 (n : Nat) : Nat → Nat → Int32 → CG → CD → Option (SR Int32)
  | 0, _, _, _, _ => none
  | m + 1, x0, x2, g, d => if ht g x0 = 1 then if (hi d x0 2) ≤ x2 then ((hr g x0 6).bind fun p3 => if ht g p3 = 3 then ev (((1 : Int32) <<< ((hi d p3 19) &&& 31)) - (1 : Int32)) fun v5 => if naok (5 : Int32) = true then tick 1 (Int32.toNatClampNeg (5 : Int32)) (ev (hz g) fun q7 => ev (nd d q7) fun da9 => ev (na g 100 (Int32.toNatClampNeg (5 : Int32))) fun ga8 => f_X1_taste_L100 n n x0 (0 : Int32) v5 q7 (0 : Int32) ga8 da9) else none else none) else ((f_X1_one g d x0 x2).bind fun r12 => (f_X1_isStatue g d x0 r12).bind fun r13 => if r13 = 0 then (some ((-1 : Int32), g, d, 0, 0)) else ((f_X1_one g d x0 (x2 + (1 : Int32))).bind fun r15 => if r15 ≤ (1 : Int32) then (f_X1_taste_L39 n m x0 (x2 + (2 : Int32)) g d) else (some ((-1 : Int32), g, d, 0, 0)))) else none
set_option maxHeartbeats 4000000 in
theorem w_X1_taste_39 {K : KT} {T : CT} {r : Int32} {g9 : CG} {d9 : CD} {c1 s1 : Nat} (n : Nat) (C : Kok K cX1_taste 8 RX1) (B : CB K T) (hrt : (kMe K).sig.returnType = (some .int)) (dK : kR K = rmC 4 c1 s1) (hQ : KQc K T (some (.int r)) c1 s1 g9 d9) : ∀ (m : Nat) (x0 : Nat) (x2 : Int32) (g : CG) (d : CD) (c0 s0 k m9 : Nat) (hc : c1 = c0 + k) (hs : s1 = s0 + m9) (hf : f_X1_taste_L39 n m x0 x2 g d = some (r, g9, d9, k, m9)), XJ K 8 (Wc K T c0 s0 g d) 39 [(0, .ref x0), (2, .int x2)] [] := by
  intro m
  induction m with
  | zero => intro x0 x2 g d c0 s0 k m9 hc hs hf; cases hf
  | succ m ih =>
    intro x0 x2 g d c0 s0 k m9 hc hs hf
    rw [f_X1_taste_L39] at hf
    refine x_iload_n C dX1_taste_39 1 rfl ?_
    refine x_aload_n C dX1_taste_40 0 rfl ?_
    obtain ⟨t1, hf⟩ := pf_ch hf
    refine cg1_2 C B t1 (flo C q613) fsm dX1_taste_41 ?_
    refine x_icmp_ge (tgt := 78) C dX1_taste_44 (by decide) (fun w2 => ?_) (fun w2 => ?_)
    · have hf := pf_t w2 hf
      refine x_iconst (0 : Int32) C dX1_taste_78 (by decide) ?_
      refine x_istore_n (L' := [(0, .ref x0), (2, .int (0 : Int32))]) C dX1_taste_79 (Nat.le_of_ble_eq_true rfl) [1, 0] rfl ?_
      refine x_iconst (1 : Int32) C dX1_taste_80 (by decide) ?_
      refine x_aload_n C dX1_taste_81 0 rfl ?_
      obtain ⟨p3, ep3, hf⟩ := pf_b hf
      refine cg1_6 C B t1 (flo C q621) fsm ep3 dX1_taste_82 ?_
      obtain ⟨t4, hf⟩ := pf_ch hf
      refine cg3_19 C B t4 (fln B q333) fsm dX1_taste_85 ?_
      refine x_ishl C dX1_taste_88 ?_
      refine x_iconst (1 : Int32) C dX1_taste_89 (by decide) ?_
      refine x_isub C dX1_taste_90 ?_
      obtain ⟨v5, ev5, hf⟩ := pf_e hf
      refine x_topir ev5 ?_
      refine x_istore_n (L' := [(0, .ref x0), (2, .int (0 : Int32)), (3, .int v5)]) C dX1_taste_91 (Nat.le_of_ble_eq_true rfl) [1, 2, 0] rfl ?_
      refine x_iconst (5 : Int32) C dX1_taste_92 (by decide) ?_
      obtain ⟨h6, hf⟩ := pf_ch hf
      obtain ⟨j10, i11, ej10, ei11, hf⟩ := pf_tk hf
      refine c_newI C B h6 dK (by omega) dX1_taste_93 ?_
      obtain ⟨q7, eq7, hf⟩ := pf_e hf
      refine x_toprr eq7 ?_
      obtain ⟨da9, eda9, hf⟩ := pf_e hf
      obtain ⟨ga8, ega8, hf⟩ := pf_e hf
      rw [← eq7, ← eda9]
      refine c_renG ega8 ?_
      refine x_astore (L' := [(0, .ref x0), (2, .int (0 : Int32)), (3, .int v5), (4, .ref q7)]) C dX1_taste_95 (Nat.le_of_ble_eq_true rfl) [1, 2, 3, 0] rfl ?_
      refine x_iconst (0 : Int32) C dX1_taste_97 (by decide) ?_
      refine x_istore (L' := [(0, .ref x0), (2, .int (0 : Int32)), (3, .int v5), (4, .ref q7), (5, .int (0 : Int32))]) C dX1_taste_98 (Nat.le_of_ble_eq_true rfl) [1, 2, 3, 4, 0] rfl ?_
      exact w_X1_taste_100 n C B hrt dK hQ n x0 (0 : Int32) v5 q7 (0 : Int32) _ _ _ _ _ _ (by omega) (by omega) hf
    · have hf := pf_f w2 hf
      refine x_aload_n C dX1_taste_47 0 rfl ?_
      refine x_aload_n C dX1_taste_48 0 rfl ?_
      refine x_iload_n C dX1_taste_49 1 rfl ?_
      obtain ⟨r12, er12, hf⟩ := pf_b hf
      refine k_X1_one_X1 C B t1 dK (Nat.le_of_ble_eq_true rfl) (by omega) er12 (Nat.le_of_ble_eq_true rfl) dX1_taste_50 ?_
      obtain ⟨r13, er13, hf⟩ := pf_b hf
      refine k_X1_isStatue_X1 C B t1 dK (Nat.le_of_ble_eq_true rfl) (by omega) er13 (Nat.le_of_ble_eq_true rfl) dX1_taste_53 ?_
      refine x_if_eq (tgt := 70) C dX1_taste_56 (by decide) (fun w14 => ?_) (fun w14 => ?_)
      · have hf := pf_t w14 hf
        refine x_iconst (-1 : Int32) C dX1_taste_70 (by decide) ?_
        obtain ⟨rfl, rfl, rfl, rfl, rfl⟩ := sr_inj hf
        refine c_cs (c0 := c1) (s0 := s1) (by omega) (by omega) ?_
        exact c_iret C hrt hQ dX1_taste_71
      · have hf := pf_f w14 hf
        refine x_aload_n C dX1_taste_59 0 rfl ?_
        refine x_iload_n C dX1_taste_60 1 rfl ?_
        refine x_iconst (1 : Int32) C dX1_taste_61 (by decide) ?_
        refine x_iadd C dX1_taste_62 ?_
        obtain ⟨r15, er15, hf⟩ := pf_b hf
        refine k_X1_one_X1 C B t1 dK (Nat.le_of_ble_eq_true rfl) (by omega) er15 (Nat.le_of_ble_eq_true rfl) dX1_taste_63 ?_
        refine x_iconst (1 : Int32) C dX1_taste_66 (by decide) ?_
        refine x_icmp_le (tgt := 72) C dX1_taste_67 (by decide) (fun w16 => ?_) (fun w16 => ?_)
        · have hf := pf_t w16 hf
          refine x_inc (c := (2 : Int32)) (L' := [(0, .ref x0), (2, .int (x2 + (2 : Int32)))]) C dX1_taste_72 1 rfl (by decide) (Nat.le_of_ble_eq_true rfl) [1, 0] rfl ?_
          refine x_goto (tgt := 39) C dX1_taste_75 (by decide) ?_
          exact ih x0 (x2 + (2 : Int32)) _ _ _ _ _ _ (by omega) (by omega) hf
        · have hf := pf_f w16 hf
          refine x_iconst (-1 : Int32) C dX1_taste_70 (by decide) ?_
          obtain ⟨rfl, rfl, rfl, rfl, rfl⟩ := sr_inj hf
          refine c_cs (c0 := c1) (s0 := s1) (by omega) (by omega) ?_
          exact c_iret C hrt hQ dX1_taste_71
def f_X1_taste (n : Nat) (x0 : Nat) (x1 : Int32) (g : CG) (d : CD) : Option (SR Int32) := if ht g x0 = 1 then (f_X1_taken g x0 d).bind fun r2 => (f_X1_isWalker g r2 x0 x1).bind fun r3 => if r3 = 0 then (some ((-1 : Int32), g, r2, 0, 0)) else (if (f_X1_isIn (hi r2 x0 2) (2 : Int32) (40 : Int32)) = 0 then (some ((-1 : Int32), g, r2, 0, 0)) else (if ((hi r2 x0 2) - (hi r2 x0 2) / (2 : Int32) * (2 : Int32)) = (1 : Int32) then (some ((-1 : Int32), g, r2, 0, 0)) else (f_X1_taste_L39 n n x0 (0 : Int32) g r2))) else none
set_option maxHeartbeats 4000000 in
theorem w_X1_taste_E {K : KT} {T : CT} {r : Int32} {g9 : CG} {d9 : CD} {c1 s1 : Nat} (n : Nat) (C : Kok K cX1_taste 8 RX1) (B : CB K T) (hrt : (kMe K).sig.returnType = (some .int)) (dK : kR K = rmC 4 c1 s1) (hQ : KQc K T (some (.int r)) c1 s1 g9 d9) (x0 : Nat) (x1 : Int32) (g : CG) (d : CD) (c0 s0 k m9 : Nat) (hc : c1 = c0 + k) (hs : s1 = s0 + m9) (hf : f_X1_taste n x0 x1 g d = some (r, g9, d9, k, m9)) : XJ K 8 (Wc K T c0 s0 g d) 0 [(0, .ref x0), (1, .int x1)] [] := by
  unfold f_X1_taste at hf
  refine x_aload_n C dX1_taste_0 0 rfl ?_
  obtain ⟨t1, hf⟩ := pf_ch hf
  obtain ⟨r2, er2, hf⟩ := pf_b hf
  refine k_X1_taken_X1 C B t1 dK (Nat.le_of_ble_eq_true rfl) (by omega) er2 (Nat.le_of_ble_eq_true rfl) dX1_taste_1 ?_
  refine x_aload_n C dX1_taste_4 0 rfl ?_
  refine x_iload_n C dX1_taste_5 1 rfl ?_
  obtain ⟨r3, er3, hf⟩ := pf_b hf
  refine k_X1_isWalker_X1 C B t1 dK (Nat.le_of_ble_eq_true rfl) (by omega) er3 (Nat.le_of_ble_eq_true rfl) dX1_taste_6 ?_
  refine x_if_eq (tgt := 35) C dX1_taste_9 (by decide) (fun w4 => ?_) (fun w4 => ?_)
  · have hf := pf_t w4 hf
    refine x_iconst (-1 : Int32) C dX1_taste_35 (by decide) ?_
    obtain ⟨rfl, rfl, rfl, rfl, rfl⟩ := sr_inj hf
    refine c_cs (c0 := c1) (s0 := s1) (by omega) (by omega) ?_
    exact c_iret C hrt hQ dX1_taste_36
  · have hf := pf_f w4 hf
    refine x_aload_n C dX1_taste_12 0 rfl ?_
    refine cg1_2 C B t1 (flo C q613) fsm dX1_taste_13 ?_
    refine x_iconst (2 : Int32) C dX1_taste_16 (by decide) ?_
    refine x_bipush (40 : Int32) C dX1_taste_17 (by decide) ?_
    refine k_X1_isIn_X1 C B dK (Nat.le_of_ble_eq_true rfl) (by omega) rfl (Nat.le_of_ble_eq_true rfl) dX1_taste_19 ?_
    refine x_if_eq (tgt := 35) C dX1_taste_22 (by decide) (fun w5 => ?_) (fun w5 => ?_)
    · have hf := pf_t w5 hf
      refine x_iconst (-1 : Int32) C dX1_taste_35 (by decide) ?_
      obtain ⟨rfl, rfl, rfl, rfl, rfl⟩ := sr_inj hf
      refine c_cs (c0 := c1) (s0 := s1) (by omega) (by omega) ?_
      exact c_iret C hrt hQ dX1_taste_36
    · have hf := pf_f w5 hf
      refine x_aload_n C dX1_taste_25 0 rfl ?_
      refine cg1_2 C B t1 (flo C q613) fsm dX1_taste_26 ?_
      refine x_iconst (2 : Int32) C dX1_taste_29 (by decide) ?_
      refine x_irem C (by decide) dX1_taste_30 ?_
      refine x_iconst (1 : Int32) C dX1_taste_31 (by decide) ?_
      refine x_icmp_ne (tgt := 37) C dX1_taste_32 (by decide) (fun w6 => ?_) (fun w6 => ?_)
      · have hf := pf_f w6 hf
        refine x_iconst (0 : Int32) C dX1_taste_37 (by decide) ?_
        refine x_istore_n (L' := [(0, .ref x0), (2, .int (0 : Int32))]) C dX1_taste_38 (Nat.le_of_ble_eq_true rfl) [1, 0] rfl ?_
        exact w_X1_taste_39 n C B hrt dK hQ n x0 (0 : Int32) _ _ _ _ _ _ (by omega) (by omega) hf
      · have hf := pf_t w6 hf
        refine x_iconst (-1 : Int32) C dX1_taste_35 (by decide) ?_
        obtain ⟨rfl, rfl, rfl, rfl, rfl⟩ := sr_inj hf
        refine c_cs (c0 := c1) (s0 := s1) (by omega) (by omega) ?_
        exact c_iret C hrt hQ dX1_taste_36
theorem met_X1_taste {T : CT} {v : (SR Int32)} {n : Nat} {g : CG} {d : CD} {x0 : Nat} {x1 : Int32} {l : Launch} (hf : f_X1_taste n x0 x1 g d = some v) : Met l yX1_taste (ws_ yX1_taste cX1_taste 8 (some .int)) (rmC 4 v.2.2.2.1 v.2.2.2.2) (va_Pc [.ref x0, .int x1] (CU T g d)) (Qc T (some (.int v.1)) v.2.1 v.2.2.1) v.2.2.2.1 v.2.2.2.2 (cA T) :=
  c_metS [.ref x0, .int x1] RX1 (by decide) rfl (Nat.le_of_ble_eq_true rfl) (fun K hl hR hrt hnm C B hQ => w_X1_taste_E n C B hrt hR hQ _ _ _ _ 0 0 _ _ (Nat.zero_add _).symm (Nat.zero_add _).symm hf)
