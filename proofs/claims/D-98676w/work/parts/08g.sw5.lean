set_option maxRecDepth 100000
theorem k_X6_must_X8 {K : KT} {T : CT} {c0 s0 c1 s1 dk : Nat} {cc : ByteArray} {nL pc : Nat} {L : List (Nat × Value)} {rest : List Value} {g : CG} {d : CD} {v : (XR Unit)} {x0 : Nat} {x1 : Int32} {x2 : Int32} (C : Kok K cc nL RX8) (B : CB K T) (hta : ht g x0 = 7) (dK : kR K = rmC dk c1 s1) (hd : 3 + 1 ≤ dk) (hcs : c0 + v.2.2.2.1 ≤ c1 ∧ s0 + v.2.2.2.2 ≤ s1) (hf : f_X6_must x0 x1 x2 g d = some v) (hW : (rest.map fun v => v.category).sum ≤ 8) (dd : decode cc pc = .ok (.invokevirtual 46, 3)) (kx : ∀ q, v.1 = .inr q → XT K nL (Wc K T (c0 + v.2.2.2.1) (s0 + v.2.2.2.2) v.2.1 v.2.2.1) pc L rest q) (kk2 : ∀ r, v.1 = .inl r → XJ K nL (Wc K T (c0 + v.2.2.2.1) (s0 + v.2.2.2.2) v.2.1 v.2.2.1) (pc + 3) L (rest)) : XJ K nL (Wc K T c0 s0 g d) pc L (.int x2 :: .int x1 :: .ref x0 :: rest) := by
  have kk3 : ∀ w, xoV v.1 = .inl w → XJ K nL (Wc K T (c0 + v.2.2.2.1) (s0 + v.2.2.2.2) v.2.1 v.2.2.1) (pc + 3) L (w.toList ++ rest) := fun w h => by
    obtain ⟨r, e1, rfl⟩ := xoV_l h
    exact kk2 r e1
  have kx3 : ∀ q, xoV v.1 = .inr q → XT K nL (Wc K T (c0 + v.2.2.2.1) (s0 + v.2.2.2.2) v.2.1 v.2.2.1) pc L rest q := fun q h => kx q (xoV_r h)
  have e := hta
  · exact cx_callU (rest := rest) (o := xoV v.1) (x := ⟨"StatueRent$LogReader", "must", "(ZI)V"⟩) (owner := "StatueRent$Reader") [.int x1, .int x2] 2 rfl C B e (by decide) (by decide) rfl dK hd (Nat.le_of_ble_eq_true rfl) hcs q865 q1380 q1381 (C.2.2.2.2.1 _ q1382) q864 q128 rfl (by decide +kernel) (met_X6_must hf) rfl hW dd kx3 kk3
theorem k_X6_next_X8 {K : KT} {T : CT} {c0 s0 c1 s1 dk : Nat} {cc : ByteArray} {nL pc : Nat} {L : List (Nat × Value)} {rest : List Value} {g : CG} {d : CD} {v : CD} {n : Nat} {x0 : Nat} (C : Kok K cc nL RX8) (B : CB K T) (hta : ht g x0 = 7) (dK : kR K = rmC dk c1 s1) (hd : 5 + 1 ≤ dk) (hcs : c0 + 0 ≤ c1 ∧ s0 + 0 ≤ s1) (hf : f_X6_next n g x0 d = some v) (hW : (rest.map fun v => v.category).sum ≤ 8) (dd : decode cc pc = .ok (.invokevirtual 50, 3)) (kk2 : XJ K nL (Wc K T c0 s0 g v) (pc + 3) L (rest)) : XJ K nL (Wc K T c0 s0 g d) pc L (.ref x0 :: rest) := by
  have e := hta
  · exact c_callU (rest := rest) (v := none) (x := ⟨"StatueRent$LogReader", "next", "()V"⟩) (owner := "StatueRent$Reader") [] 0 rfl C B e (by decide) (by decide) rfl dK hd (Nat.le_of_ble_eq_true rfl) hcs q779 q1383 q1384 (C.2.2.2.2.1 _ q1385) q774 q128 rfl (by decide +kernel) (met_X6_next hf) rfl hW dd kk2
theorem k_X6_number_X8 {K : KT} {T : CT} {c0 s0 c1 s1 dk : Nat} {cc : ByteArray} {nL pc : Nat} {L : List (Nat × Value)} {rest : List Value} {g : CG} {d : CD} {v : (XR Int32)} {n : Nat} {x0 : Nat} {x1 : Int32} {x2 : Int32} (C : Kok K cc nL RX8) (B : CB K T) (hta : ht g x0 = 7) (dK : kR K = rmC dk c1 s1) (hd : 6 + 1 ≤ dk) (hcs : c0 + v.2.2.2.1 ≤ c1 ∧ s0 + v.2.2.2.2 ≤ s1) (hf : f_X6_number n x0 x1 x2 g d = some v) (hW : (rest.map fun v => v.category).sum ≤ 8) (dd : decode cc pc = .ok (.invokevirtual 55, 3)) (kx : ∀ q, v.1 = .inr q → XT K nL (Wc K T (c0 + v.2.2.2.1) (s0 + v.2.2.2.2) v.2.1 v.2.2.1) pc L rest q) (kk2 : ∀ r, v.1 = .inl r → XJ K nL (Wc K T (c0 + v.2.2.2.1) (s0 + v.2.2.2.2) v.2.1 v.2.2.1) (pc + 3) L ((.int r) :: rest)) : XJ K nL (Wc K T c0 s0 g d) pc L (.int x2 :: .int x1 :: .ref x0 :: rest) := by
  have kk3 : ∀ w, xoI v.1 = .inl w → XJ K nL (Wc K T (c0 + v.2.2.2.1) (s0 + v.2.2.2.2) v.2.1 v.2.2.1) (pc + 3) L (w.toList ++ rest) := fun w h => by
    obtain ⟨r, e1, rfl⟩ := xoI_l h
    exact kk2 r e1
  have kx3 : ∀ q, xoI v.1 = .inr q → XT K nL (Wc K T (c0 + v.2.2.2.1) (s0 + v.2.2.2.2) v.2.1 v.2.2.1) pc L rest q := fun q h => kx q (xoI_r h)
  have e := hta
  · exact cx_callU (rest := rest) (o := xoI v.1) (x := ⟨"StatueRent$LogReader", "number", "(II)I"⟩) (owner := "StatueRent$Reader") [.int x1, .int x2] 2 rfl C B e (by decide) (by decide) rfl dK hd (Nat.le_of_ble_eq_true rfl) hcs q907 q1388 q1389 (C.2.2.2.2.1 _ q1390) q906 q128 rfl (by decide +kernel) (met_X6_number hf) rfl hW dd kx3 kk3
theorem k_X12_init_X8 {K : KT} {T : CT} {c0 s0 c1 s1 dk : Nat} {cc : ByteArray} {nL pc : Nat} {L : List (Nat × Value)} {rest : List Value} {g : CG} {d : CD} {v : (SR Unit)} {x0 : Nat} {x1 : Int32} (C : Kok K cc nL RX8) (B : CB K T) (dK : kR K = rmC dk c1 s1) (hd : 4 + 1 ≤ dk) (hcs : c0 + v.2.2.2.1 ≤ c1 ∧ s0 + v.2.2.2.2 ≤ s1) (hf : f_X12_init x0 x1 g d = some v) (hW : (rest.map fun v => v.category).sum ≤ 8) (dd : decode cc pc = .ok (.invokespecial 59, 3)) (kk2 : XJ K nL (Wc K T (c0 + v.2.2.2.1) (s0 + v.2.2.2.2) v.2.1 v.2.2.1) (pc + 3) L (rest)) : XJ K nL (Wc K T c0 s0 g d) pc L (.int x1 :: .ref x0 :: rest) := by
  exact c_callI (rest := rest) (v := none) [.int x1] 1 rfl C B dK hd (Nat.le_of_ble_eq_true rfl) hcs q1393 q1391 q1392 q145 rfl (by decide +kernel) (met_X12_init hf) rfl hW dd kk2
theorem k_X6_is_X8 {K : KT} {T : CT} {c0 s0 c1 s1 dk : Nat} {cc : ByteArray} {nL pc : Nat} {L : List (Nat × Value)} {rest : List Value} {g : CG} {d : CD} {v : Int32} {n : Nat} {x0 : Nat} {x1 : Nat} (C : Kok K cc nL RX8) (B : CB K T) (hta : ht g x0 = 7) (dK : kR K = rmC dk c1 s1) (hd : 6 + 1 ≤ dk) (hcs : c0 + 0 ≤ c1 ∧ s0 + 0 ≤ s1) (hf : f_X6_is n g d x0 x1 = some v) (hW : (rest.map fun v => v.category).sum ≤ 8) (dd : decode cc pc = .ok (.invokevirtual 42, 3)) (kk2 : XJ K nL (Wc K T c0 s0 g d) (pc + 3) L ((.int v) :: rest)) : XJ K nL (Wc K T c0 s0 g d) pc L (.ref x1 :: .ref x0 :: rest) := by
  have e := hta
  · exact c_callU (rest := rest) (v := (some (.int v))) (x := ⟨"StatueRent$LogReader", "is", "(Ljava/lang/String;)Z"⟩) (owner := "StatueRent$Reader") [.ref x1] 1 rfl C B e (by decide) (by decide) rfl dK hd (Nat.le_of_ble_eq_true rfl) hcs q811 q1376 q1377 (C.2.2.2.2.1 _ q1379) q806 q128 rfl (by decide +kernel) (met_X6_is hf) rfl hW dd kk2
theorem k_X6_known_X8 {K : KT} {T : CT} {c0 s0 c1 s1 dk : Nat} {cc : ByteArray} {nL pc : Nat} {L : List (Nat × Value)} {rest : List Value} {g : CG} {d : CD} {v : (XR Int32)} {n : Nat} {x0 : Nat} {x1 : Nat} {x2 : Int32} (C : Kok K cc nL RX8) (B : CB K T) (hta : ht g x0 = 7) (dK : kR K = rmC dk c1 s1) (hd : 10 + 1 ≤ dk) (hcs : c0 + v.2.2.2.1 ≤ c1 ∧ s0 + v.2.2.2.2 ≤ s1) (hf : f_X6_known n x0 x1 x2 g d = some v) (hW : (rest.map fun v => v.category).sum ≤ 8) (dd : decode cc pc = .ok (.invokevirtual 88, 3)) (kx : ∀ q, v.1 = .inr q → XT K nL (Wc K T (c0 + v.2.2.2.1) (s0 + v.2.2.2.2) v.2.1 v.2.2.1) pc L rest q) (kk2 : ∀ r, v.1 = .inl r → XJ K nL (Wc K T (c0 + v.2.2.2.1) (s0 + v.2.2.2.2) v.2.1 v.2.2.1) (pc + 3) L ((.int r) :: rest)) : XJ K nL (Wc K T c0 s0 g d) pc L (.int x2 :: .ref x1 :: .ref x0 :: rest) := by
  have kk3 : ∀ w, xoI v.1 = .inl w → XJ K nL (Wc K T (c0 + v.2.2.2.1) (s0 + v.2.2.2.2) v.2.1 v.2.2.1) (pc + 3) L (w.toList ++ rest) := fun w h => by
    obtain ⟨r, e1, rfl⟩ := xoI_l h
    exact kk2 r e1
  have kx3 : ∀ q, xoI v.1 = .inr q → XT K nL (Wc K T (c0 + v.2.2.2.1) (s0 + v.2.2.2.2) v.2.1 v.2.2.1) pc L rest q := fun q h => kx q (xoI_r h)
  have e := hta
  · exact cx_callU (rest := rest) (o := xoI v.1) (x := ⟨"StatueRent$LogReader", "known", "([JI)I"⟩) (owner := "StatueRent$Reader") [.ref x1, .int x2] 2 rfl C B e (by decide) (by decide) rfl dK hd (Nat.le_of_ble_eq_true rfl) hcs q914 q1408 q1409 (C.2.2.2.2.1 _ q1410) q913 q128 rfl (by decide +kernel) (met_X6_known hf) rfl hW dd kx3 kk3
theorem k_X16_init_X8 {K : KT} {T : CT} {c0 s0 c1 s1 dk : Nat} {cc : ByteArray} {nL pc : Nat} {L : List (Nat × Value)} {rest : List Value} {g : CG} {d : CD} {v : (SR Unit)} {x0 : Nat} {x1 : Int32} {x2 : Int32} {x3 : Int32} (C : Kok K cc nL RX8) (B : CB K T) (dK : kR K = rmC dk c1 s1) (hd : 4 + 1 ≤ dk) (hcs : c0 + v.2.2.2.1 ≤ c1 ∧ s0 + v.2.2.2.2 ≤ s1) (hf : f_X16_init x0 x1 x2 x3 g d = some v) (hW : (rest.map fun v => v.category).sum ≤ 8) (dd : decode cc pc = .ok (.invokespecial 114, 3)) (kk2 : XJ K nL (Wc K T (c0 + v.2.2.2.1) (s0 + v.2.2.2.2) v.2.1 v.2.2.1) (pc + 3) L (rest)) : XJ K nL (Wc K T c0 s0 g d) pc L (.int x3 :: .int x2 :: .int x1 :: .ref x0 :: rest) := by
  exact c_callI (rest := rest) (v := none) [.int x1, .int x2, .int x3] 3 rfl C B dK hd (Nat.le_of_ble_eq_true rfl) hcs q1452 q1450 q1451 q149 rfl (by decide +kernel) (met_X16_init hf) rfl hW dd kk2
theorem k_X15_init_X8 {K : KT} {T : CT} {c0 s0 c1 s1 dk : Nat} {cc : ByteArray} {nL pc : Nat} {L : List (Nat × Value)} {rest : List Value} {g : CG} {d : CD} {v : (SR Unit)} {x0 : Nat} {x1 : Int32} {x2 : Int32} (C : Kok K cc nL RX8) (B : CB K T) (dK : kR K = rmC dk c1 s1) (hd : 4 + 1 ≤ dk) (hcs : c0 + v.2.2.2.1 ≤ c1 ∧ s0 + v.2.2.2.2 ≤ s1) (hf : f_X15_init x0 x1 x2 g d = some v) (hW : (rest.map fun v => v.category).sum ≤ 8) (dd : decode cc pc = .ok (.invokespecial 109, 3)) (kk2 : XJ K nL (Wc K T (c0 + v.2.2.2.1) (s0 + v.2.2.2.2) v.2.1 v.2.2.1) (pc + 3) L (rest)) : XJ K nL (Wc K T c0 s0 g d) pc L (.int x2 :: .int x1 :: .ref x0 :: rest) := by
  exact c_callI (rest := rest) (v := none) [.int x1, .int x2] 2 rfl C B dK hd (Nat.le_of_ble_eq_true rfl) hcs q1438 q1436 q1437 q148 rfl (by decide +kernel) (met_X15_init hf) rfl hW dd kk2
theorem k_X14_init_X8 {K : KT} {T : CT} {c0 s0 c1 s1 dk : Nat} {cc : ByteArray} {nL pc : Nat} {L : List (Nat × Value)} {rest : List Value} {g : CG} {d : CD} {v : (SR Unit)} {x0 : Nat} {x1 : Int32} (C : Kok K cc nL RX8) (B : CB K T) (dK : kR K = rmC dk c1 s1) (hd : 4 + 1 ≤ dk) (hcs : c0 + v.2.2.2.1 ≤ c1 ∧ s0 + v.2.2.2.2 ≤ s1) (hf : f_X14_init x0 x1 g d = some v) (hW : (rest.map fun v => v.category).sum ≤ 8) (dd : decode cc pc = .ok (.invokespecial 98, 3)) (kk2 : XJ K nL (Wc K T (c0 + v.2.2.2.1) (s0 + v.2.2.2.2) v.2.1 v.2.2.1) (pc + 3) L (rest)) : XJ K nL (Wc K T c0 s0 g d) pc L (.int x1 :: .ref x0 :: rest) := by
  exact c_callI (rest := rest) (v := none) [.int x1] 1 rfl C B dK hd (Nat.le_of_ble_eq_true rfl) hcs q1427 q1425 q1426 q147 rfl (by decide +kernel) (met_X14_init hf) rfl hW dd kk2
theorem k_X13_init_X8 {K : KT} {T : CT} {c0 s0 c1 s1 dk : Nat} {cc : ByteArray} {nL pc : Nat} {L : List (Nat × Value)} {rest : List Value} {g : CG} {d : CD} {v : (SR Unit)} {x0 : Nat} {x1 : Int32} {x2 : Int32} (C : Kok K cc nL RX8) (B : CB K T) (dK : kR K = rmC dk c1 s1) (hd : 4 + 1 ≤ dk) (hcs : c0 + v.2.2.2.1 ≤ c1 ∧ s0 + v.2.2.2.2 ≤ s1) (hf : f_X13_init x0 x1 x2 g d = some v) (hW : (rest.map fun v => v.category).sum ≤ 8) (dd : decode cc pc = .ok (.invokespecial 91, 3)) (kk2 : XJ K nL (Wc K T (c0 + v.2.2.2.1) (s0 + v.2.2.2.2) v.2.1 v.2.2.1) (pc + 3) L (rest)) : XJ K nL (Wc K T c0 s0 g d) pc L (.int x2 :: .int x1 :: .ref x0 :: rest) := by
  exact c_callI (rest := rest) (v := none) [.int x1, .int x2] 2 rfl C B dK hd (Nat.le_of_ble_eq_true rfl) hcs q1413 q1411 q1412 q146 rfl (by decide +kernel) (met_X13_init hf) rfl hW dd kk2
theorem k_X6_look_X8 {K : KT} {T : CT} {c0 s0 c1 s1 dk : Nat} {cc : ByteArray} {nL pc : Nat} {L : List (Nat × Value)} {rest : List Value} {g : CG} {d : CD} {v : (XR Int32)} {n : Nat} {x0 : Nat} {x1 : Nat} {x2 : Int32} (C : Kok K cc nL RX8) (B : CB K T) (hta : ht g x0 = 7) (dK : kR K = rmC dk c1 s1) (hd : 9 + 1 ≤ dk) (hcs : c0 + v.2.2.2.1 ≤ c1 ∧ s0 + v.2.2.2.2 ≤ s1) (hf : f_X6_look n x0 x1 x2 g d = some v) (hW : (rest.map fun v => v.category).sum ≤ 8) (dd : decode cc pc = .ok (.invokevirtual 74, 3)) (kx : ∀ q, v.1 = .inr q → XT K nL (Wc K T (c0 + v.2.2.2.1) (s0 + v.2.2.2.2) v.2.1 v.2.2.1) pc L rest q) (kk2 : ∀ r, v.1 = .inl r → XJ K nL (Wc K T (c0 + v.2.2.2.1) (s0 + v.2.2.2.2) v.2.1 v.2.2.1) (pc + 3) L ((.int r) :: rest)) : XJ K nL (Wc K T c0 s0 g d) pc L (.int x2 :: .ref x1 :: .ref x0 :: rest) := by
  have kk3 : ∀ w, xoI v.1 = .inl w → XJ K nL (Wc K T (c0 + v.2.2.2.1) (s0 + v.2.2.2.2) v.2.1 v.2.2.1) (pc + 3) L (w.toList ++ rest) := fun w h => by
    obtain ⟨r, e1, rfl⟩ := xoI_l h
    exact kk2 r e1
  have kx3 : ∀ q, xoI v.1 = .inr q → XT K nL (Wc K T (c0 + v.2.2.2.1) (s0 + v.2.2.2.2) v.2.1 v.2.2.1) pc L rest q := fun q h => kx q (xoI_r h)
  have e := hta
  · exact cx_callU (rest := rest) (o := xoI v.1) (x := ⟨"StatueRent$LogReader", "look", "([JI)I"⟩) (owner := "StatueRent$Reader") [.ref x1, .int x2] 2 rfl C B e (by decide) (by decide) rfl dK hd (Nat.le_of_ble_eq_true rfl) hcs q921 q1402 q1403 (C.2.2.2.2.1 _ q1404) q916 q128 rfl (by decide +kernel) (met_X6_look hf) rfl hW dd kx3 kk3
def f_X8_line_L24 (ts : Nat → Nat) (n : Nat) (x0 : Nat) (y0 : Nat) (y1 : Int32) (g : CG) (d : CD) : Option (XR Nat) := if ht g y0 = 7 then (f_X6_must y0 y1 (4 : Int32) g d).bind fun r2 => tick r2.2.2.2.1 r2.2.2.2.2 (xcase r2 fun r5 => if ht r2.2.1 x0 = 7 then (f_X6_next n r2.2.1 x0 r2.2.2.1).bind fun r7 => tick 1 1 (ev (hz r2.2.1) fun q8 => ev (nd r7 q8) fun da10 => ev (na r2.2.1 9 0) fun ga9 => if ht ga9 x0 = 7 then (f_X6_number n x0 (1 : Int32) (60 : Int32) ga9 da10).bind fun r14 => tick r14.2.2.2.1 r14.2.2.2.2 (xcase r14 fun r17 => (f_X12_init q8 r17 r14.2.1 r14.2.2.1).bind fun r18 => tick r18.2.2.2.1 r18.2.2.2.2 (some (.inl q8, r18.2.1, r18.2.2.1, 0, 0))) else none) else none) else none
set_option maxHeartbeats 4000000 in
theorem w_X8_line_24 {K : KT} {T : CT} {r : (Nat ⊕ Nat)} {g9 : CG} {d9 : CD} {c1 s1 : Nat} (ts : Nat → Nat) (n : Nat) (hts : tS T = ts) (C : Kok K cX8_line 3 RX8) (B : CB K T) (hrt : (kMe K).sig.returnType = (some (.object "StatueRent$Line"))) (dK : kR K = rmC 11 c1 s1) (hQ : KQx K T (xoR r) c1 s1 g9 d9) (x0 : Nat) (y0 : Nat) (y1 : Int32) (g : CG) (d : CD) (c0 s0 k m9 : Nat) (hc : c1 = c0 + k) (hs : s1 = s0 + m9) (hf : f_X8_line_L24 ts n x0 y0 y1 g d = some (r, g9, d9, k, m9)) : XJ K 3 (Wc K T c0 s0 g d) 24 [(0, .ref x0)] [.int y1, .ref y0] := by
  unfold f_X8_line_L24 at hf
  refine x_iconst (4 : Int32) C dX8_line_24 (by decide) ?_
  obtain ⟨t1, hf⟩ := pf_ch hf
  obtain ⟨r2, er2, hf⟩ := pf_b hf
  obtain ⟨j3, i4, ej3, ei4, hf⟩ := pf_tk hf
  refine k_X6_must_X8 C B t1 dK (Nat.le_of_ble_eq_true rfl) (by omega) er2 (Nat.le_of_ble_eq_true rfl) dX8_line_25 (fun q eq => ?_) (fun r5 er5 => ?_)
  · obtain ⟨rfl, rfl, rfl, rfl, rfl⟩ := pf_xr eq hf
    exact c_csT (by omega) (by omega) (c_out C hQ)
  have hf := pf_xl er5 hf
  refine x_aload_n C dX8_line_28 0 rfl ?_
  obtain ⟨t6, hf⟩ := pf_ch hf
  obtain ⟨r7, er7, hf⟩ := pf_b hf
  refine k_X6_next_X8 C B t6 dK (Nat.le_of_ble_eq_true rfl) (by omega) er7 (Nat.le_of_ble_eq_true rfl) dX8_line_29 ?_
  obtain ⟨j11, i12, ej11, ei12, hf⟩ := pf_tk hf
  refine c_new9 C B q1386 dK (by omega) dX8_line_32 ?_
  obtain ⟨q8, eq8, hf⟩ := pf_e hf
  refine x_toprr eq8 ?_
  obtain ⟨da10, eda10, hf⟩ := pf_e hf
  obtain ⟨ga9, ega9, hf⟩ := pf_e hf
  rw [← eq8, ← eda10, ← ega9]
  refine x_dup C dX8_line_35 rfl ?_
  refine x_aload_n C dX8_line_36 0 rfl ?_
  refine x_iconst (1 : Int32) C dX8_line_37 (by decide) ?_
  refine x_bipush (60 : Int32) C dX8_line_38 (by decide) ?_
  obtain ⟨t13, hf⟩ := pf_ch hf
  obtain ⟨r14, er14, hf⟩ := pf_b hf
  obtain ⟨j15, i16, ej15, ei16, hf⟩ := pf_tk hf
  refine k_X6_number_X8 C B t13 dK (Nat.le_of_ble_eq_true rfl) (by omega) er14 (Nat.le_of_ble_eq_true rfl) dX8_line_40 (fun q eq => ?_) (fun r17 er17 => ?_)
  · obtain ⟨rfl, rfl, rfl, rfl, rfl⟩ := pf_xr eq hf
    exact c_csT (by omega) (by omega) (c_out C hQ)
  have hf := pf_xl er17 hf
  obtain ⟨r18, er18, hf⟩ := pf_b hf
  obtain ⟨j19, i20, ej19, ei20, hf⟩ := pf_tk hf
  refine k_X12_init_X8 C B dK (Nat.le_of_ble_eq_true rfl) (by omega) er18 (Nat.le_of_ble_eq_true rfl) dX8_line_43 ?_
  obtain ⟨rfl, rfl, rfl, rfl, rfl⟩ := sr_inj hf
  refine c_cs (c0 := c1) (s0 := s1) (by omega) (by omega) ?_
  exact x_ret hQ (c_aret (K := kW K _) C hrt (Or.inl ⟨_, rfl⟩) rfl dX8_line_46)
def f_X8_line_L87 (ts : Nat → Nat) (n : Nat) (x0 : Nat) (x1 : Int32) (y0 : Nat) (y1 : Int32) (g : CG) (d : CD) : Option (XR Nat) := if ht g y0 = 7 then (f_X6_must y0 y1 (4 : Int32) g d).bind fun r2 => tick r2.2.2.2.1 r2.2.2.2.2 (xcase r2 fun r5 => if ht r2.2.1 x0 = 7 then (f_X6_next n r2.2.1 x0 r2.2.2.1).bind fun r7 => (f_X6_is n r2.2.1 r7 x0 (ts 7)).bind fun r8 => if r8 = 0 then ((f_X6_is n r2.2.1 r7 x0 (ts 8)).bind fun r10 => if r10 = 0 then ((f_X6_is n r2.2.1 r7 x0 (ts 9)).bind fun r12 => if r12 = 0 then ((f_X6_is n r2.2.1 r7 x0 (ts 10)).bind fun r14 => (f_X6_must x0 r14 (1 : Int32) r2.2.1 r7).bind fun r15 => tick r15.2.2.2.1 r15.2.2.2.2 (xcase r15 fun r18 => if ht r15.2.1 x0 = 7 then (f_X6_next n r15.2.1 x0 r15.2.2.1).bind fun r20 => (hr r15.2.1 x0 10).bind fun p21 => if ht r15.2.1 p21 = 1 then (hr r15.2.1 p21 6).bind fun p23 => if ht r15.2.1 p23 = 3 then (hr r15.2.1 p23 2).bind fun p25 => (f_X6_known n x0 p25 (hi r20 p23 20) r15.2.1 r20).bind fun r26 => tick r26.2.2.2.1 r26.2.2.2.2 (xcase r26 fun r29 => tick 1 3 (ev (hz r26.2.1) fun q30 => ev (nd r26.2.2.1 q30) fun da32 => ev (na r26.2.1 13 0) fun ga31 => if ht ga31 x0 = 7 then (f_X6_number n x0 (1 : Int32) (99 : Int32) ga31 da32).bind fun r36 => tick r36.2.2.2.1 r36.2.2.2.2 (xcase r36 fun r39 => (f_X16_init q30 x1 r29 r39 r36.2.1 r36.2.2.1).bind fun r40 => tick r40.2.2.2.1 r40.2.2.2.2 (some (.inl q30, r40.2.1, r40.2.2.1, 0, 0))) else none)) else none else none else none)) else ((f_X6_next n r2.2.1 x0 r7).bind fun r43 => tick 1 2 (ev (hz r2.2.1) fun q44 => ev (nd r43 q44) fun da46 => ev (na r2.2.1 12 0) fun ga45 => if ht ga45 x0 = 7 then (hr ga45 x0 10).bind fun p50 => if ht ga45 p50 = 1 then (hr ga45 p50 6).bind fun p52 => if ht ga45 p52 = 3 then (hr ga45 p52 1).bind fun p54 => (f_X6_known n x0 p54 (hi da46 p52 19) ga45 da46).bind fun r55 => tick r55.2.2.2.1 r55.2.2.2.2 (xcase r55 fun r58 => (f_X15_init q44 x1 r58 r55.2.1 r55.2.2.1).bind fun r59 => tick r59.2.2.2.1 r59.2.2.2.2 (some (.inl q44, r59.2.1, r59.2.2.1, 0, 0))) else none else none else none))) else ((f_X6_next n r2.2.1 x0 r7).bind fun r62 => tick 1 1 (ev (hz r2.2.1) fun q63 => ev (nd r62 q63) fun da65 => ev (na r2.2.1 11 0) fun ga64 => (f_X14_init q63 x1 ga64 da65).bind fun r68 => tick r68.2.2.2.1 r68.2.2.2.2 (some (.inl q63, r68.2.1, r68.2.2.1, 0, 0))))) else ((f_X6_next n r2.2.1 x0 r7).bind fun r71 => tick 1 2 (ev (hz r2.2.1) fun q72 => ev (nd r71 q72) fun da74 => ev (na r2.2.1 10 0) fun ga73 => if ht ga73 x0 = 7 then (hr ga73 x0 10).bind fun p78 => if ht ga73 p78 = 1 then (hr ga73 p78 6).bind fun p80 => if ht ga73 p80 = 3 then (hr ga73 p80 0).bind fun p82 => (f_X6_known n x0 p82 (hi da74 p80 17) ga73 da74).bind fun r83 => tick r83.2.2.2.1 r83.2.2.2.2 (xcase r83 fun r86 => (f_X13_init q72 x1 r86 r83.2.1 r83.2.2.1).bind fun r87 => tick r87.2.2.2.1 r87.2.2.2.2 (some (.inl q72, r87.2.1, r87.2.2.1, 0, 0))) else none else none else none)) else none) else none
set_option maxHeartbeats 4000000 in
theorem w_X8_line_87 {K : KT} {T : CT} {r : (Nat ⊕ Nat)} {g9 : CG} {d9 : CD} {c1 s1 : Nat} (ts : Nat → Nat) (n : Nat) (hts : tS T = ts) (C : Kok K cX8_line 3 RX8) (B : CB K T) (hrt : (kMe K).sig.returnType = (some (.object "StatueRent$Line"))) (dK : kR K = rmC 11 c1 s1) (hQ : KQx K T (xoR r) c1 s1 g9 d9) (x0 : Nat) (x1 : Int32) (y0 : Nat) (y1 : Int32) (g : CG) (d : CD) (c0 s0 k m9 : Nat) (hc : c1 = c0 + k) (hs : s1 = s0 + m9) (hf : f_X8_line_L87 ts n x0 x1 y0 y1 g d = some (r, g9, d9, k, m9)) : XJ K 3 (Wc K T c0 s0 g d) 87 [(0, .ref x0), (1, .int x1)] [.int y1, .ref y0] := by
  unfold f_X8_line_L87 at hf
  refine x_iconst (4 : Int32) C dX8_line_87 (by decide) ?_
  obtain ⟨t1, hf⟩ := pf_ch hf
  obtain ⟨r2, er2, hf⟩ := pf_b hf
  obtain ⟨j3, i4, ej3, ei4, hf⟩ := pf_tk hf
  refine k_X6_must_X8 C B t1 dK (Nat.le_of_ble_eq_true rfl) (by omega) er2 (Nat.le_of_ble_eq_true rfl) dX8_line_88 (fun q eq => ?_) (fun r5 er5 => ?_)
  · obtain ⟨rfl, rfl, rfl, rfl, rfl⟩ := pf_xr eq hf
    exact c_csT (by omega) (by omega) (c_out C hQ)
  have hf := pf_xl er5 hf
  refine x_aload_n C dX8_line_91 0 rfl ?_
  obtain ⟨t6, hf⟩ := pf_ch hf
  obtain ⟨r7, er7, hf⟩ := pf_b hf
  refine k_X6_next_X8 C B t6 dK (Nat.le_of_ble_eq_true rfl) (by omega) er7 (Nat.le_of_ble_eq_true rfl) dX8_line_92 ?_
  refine x_aload_n C dX8_line_95 0 rfl ?_
  refine c_ldcS 28 C B rfl dX8_line_96 ?_
  rw [hts]
  obtain ⟨r8, er8, hf⟩ := pf_b hf
  refine k_X6_is_X8 C B t6 dK (Nat.le_of_ble_eq_true rfl) (by omega) er8 (Nat.le_of_ble_eq_true rfl) dX8_line_98 ?_
  refine x_if_eq (tgt := 141) C dX8_line_101 (by decide) (fun w9 => ?_) (fun w9 => ?_)
  · have hf := pf_t w9 hf
    refine x_aload_n C dX8_line_141 0 rfl ?_
    refine c_ldcS 29 C B rfl dX8_line_142 ?_
    rw [hts]
    obtain ⟨r10, er10, hf⟩ := pf_b hf
    refine k_X6_is_X8 C B t6 dK (Nat.le_of_ble_eq_true rfl) (by omega) er10 (Nat.le_of_ble_eq_true rfl) dX8_line_144 ?_
    refine x_if_eq (tgt := 163) C dX8_line_147 (by decide) (fun w11 => ?_) (fun w11 => ?_)
    · have hf := pf_t w11 hf
      refine x_aload_n C dX8_line_163 0 rfl ?_
      refine c_ldcS 30 C B rfl dX8_line_164 ?_
      rw [hts]
      obtain ⟨r12, er12, hf⟩ := pf_b hf
      refine k_X6_is_X8 C B t6 dK (Nat.le_of_ble_eq_true rfl) (by omega) er12 (Nat.le_of_ble_eq_true rfl) dX8_line_166 ?_
      refine x_if_eq (tgt := 209) C dX8_line_169 (by decide) (fun w13 => ?_) (fun w13 => ?_)
      · have hf := pf_t w13 hf
        refine x_aload_n C dX8_line_209 0 rfl ?_
        refine x_aload_n C dX8_line_210 0 rfl ?_
        refine c_ldcS 31 C B rfl dX8_line_211 ?_
        rw [hts]
        obtain ⟨r14, er14, hf⟩ := pf_b hf
        refine k_X6_is_X8 C B t6 dK (Nat.le_of_ble_eq_true rfl) (by omega) er14 (Nat.le_of_ble_eq_true rfl) dX8_line_213 ?_
        refine x_iconst (1 : Int32) C dX8_line_216 (by decide) ?_
        obtain ⟨r15, er15, hf⟩ := pf_b hf
        obtain ⟨j16, i17, ej16, ei17, hf⟩ := pf_tk hf
        refine k_X6_must_X8 C B t6 dK (Nat.le_of_ble_eq_true rfl) (by omega) er15 (Nat.le_of_ble_eq_true rfl) dX8_line_217 (fun q eq => ?_) (fun r18 er18 => ?_)
        · obtain ⟨rfl, rfl, rfl, rfl, rfl⟩ := pf_xr eq hf
          exact c_csT (by omega) (by omega) (c_out C hQ)
        have hf := pf_xl er18 hf
        refine x_aload_n C dX8_line_220 0 rfl ?_
        obtain ⟨t19, hf⟩ := pf_ch hf
        obtain ⟨r20, er20, hf⟩ := pf_b hf
        refine k_X6_next_X8 C B t19 dK (Nat.le_of_ble_eq_true rfl) (by omega) er20 (Nat.le_of_ble_eq_true rfl) dX8_line_221 ?_
        refine x_aload_n C dX8_line_224 0 rfl ?_
        refine x_aload_n C dX8_line_225 0 rfl ?_
        obtain ⟨p21, ep21, hf⟩ := pf_b hf
        refine cg7_10 C B t19 (flo C q544) fsm ep21 dX8_line_226 ?_
        obtain ⟨t22, hf⟩ := pf_ch hf
        obtain ⟨p23, ep23, hf⟩ := pf_b hf
        refine cg1_6 C B t22 (fln B q622) fsm ep23 dX8_line_229 ?_
        obtain ⟨t24, hf⟩ := pf_ch hf
        obtain ⟨p25, ep25, hf⟩ := pf_b hf
        refine cg3_2 C B t24 (fln B q277) fsm ep25 dX8_line_232 ?_
        refine x_aload_n C dX8_line_235 0 rfl ?_
        refine cg7_10 C B t19 (flo C q544) fsm ep21 dX8_line_236 ?_
        refine cg1_6 C B t22 (fln B q622) fsm ep23 dX8_line_239 ?_
        refine cg3_20 C B t24 (fln B q335) fsm dX8_line_242 ?_
        obtain ⟨r26, er26, hf⟩ := pf_b hf
        obtain ⟨j27, i28, ej27, ei28, hf⟩ := pf_tk hf
        refine k_X6_known_X8 C B t19 dK (Nat.le_of_ble_eq_true rfl) (by omega) er26 (Nat.le_of_ble_eq_true rfl) dX8_line_245 (fun q eq => ?_) (fun r29 er29 => ?_)
        · obtain ⟨rfl, rfl, rfl, rfl, rfl⟩ := pf_xr eq hf
          exact c_csT (by omega) (by omega) (c_out C hQ)
        have hf := pf_xl er29 hf
        refine x_istore_n (L' := [(0, .ref x0), (1, .int x1), (2, .int r29)]) C dX8_line_248 (Nat.le_of_ble_eq_true rfl) [1, 2, 0] rfl ?_
        obtain ⟨j33, i34, ej33, ei34, hf⟩ := pf_tk hf
        refine c_new13 C B q1448 dK (by omega) dX8_line_249 ?_
        obtain ⟨q30, eq30, hf⟩ := pf_e hf
        refine x_toprr eq30 ?_
        obtain ⟨da32, eda32, hf⟩ := pf_e hf
        obtain ⟨ga31, ega31, hf⟩ := pf_e hf
        rw [← eq30, ← eda32, ← ega31]
        refine x_dup C dX8_line_252 rfl ?_
        refine x_iload_n C dX8_line_253 1 rfl ?_
        refine x_iload_n C dX8_line_254 2 rfl ?_
        refine x_aload_n C dX8_line_255 0 rfl ?_
        refine x_iconst (1 : Int32) C dX8_line_256 (by decide) ?_
        refine x_bipush (99 : Int32) C dX8_line_257 (by decide) ?_
        obtain ⟨t35, hf⟩ := pf_ch hf
        obtain ⟨r36, er36, hf⟩ := pf_b hf
        obtain ⟨j37, i38, ej37, ei38, hf⟩ := pf_tk hf
        refine k_X6_number_X8 C B t35 dK (Nat.le_of_ble_eq_true rfl) (by omega) er36 (Nat.le_of_ble_eq_true rfl) dX8_line_259 (fun q eq => ?_) (fun r39 er39 => ?_)
        · obtain ⟨rfl, rfl, rfl, rfl, rfl⟩ := pf_xr eq hf
          exact c_csT (by omega) (by omega) (c_out C hQ)
        have hf := pf_xl er39 hf
        obtain ⟨r40, er40, hf⟩ := pf_b hf
        obtain ⟨j41, i42, ej41, ei42, hf⟩ := pf_tk hf
        refine k_X16_init_X8 C B dK (Nat.le_of_ble_eq_true rfl) (by omega) er40 (Nat.le_of_ble_eq_true rfl) dX8_line_262 ?_
        obtain ⟨rfl, rfl, rfl, rfl, rfl⟩ := sr_inj hf
        refine c_cs (c0 := c1) (s0 := s1) (by omega) (by omega) ?_
        exact x_ret hQ (c_aret (K := kW K _) C hrt (Or.inl ⟨_, rfl⟩) rfl dX8_line_265)
      · have hf := pf_f w13 hf
        refine x_aload_n C dX8_line_172 0 rfl ?_
        obtain ⟨r43, er43, hf⟩ := pf_b hf
        refine k_X6_next_X8 C B t6 dK (Nat.le_of_ble_eq_true rfl) (by omega) er43 (Nat.le_of_ble_eq_true rfl) dX8_line_173 ?_
        obtain ⟨j47, i48, ej47, ei48, hf⟩ := pf_tk hf
        refine c_new12 C B q1434 dK (by omega) dX8_line_176 ?_
        obtain ⟨q44, eq44, hf⟩ := pf_e hf
        refine x_toprr eq44 ?_
        obtain ⟨da46, eda46, hf⟩ := pf_e hf
        obtain ⟨ga45, ega45, hf⟩ := pf_e hf
        rw [← eq44, ← eda46, ← ega45]
        refine x_dup C dX8_line_179 rfl ?_
        refine x_iload_n C dX8_line_180 1 rfl ?_
        refine x_aload_n C dX8_line_181 0 rfl ?_
        refine x_aload_n C dX8_line_182 0 rfl ?_
        obtain ⟨t49, hf⟩ := pf_ch hf
        obtain ⟨p50, ep50, hf⟩ := pf_b hf
        refine cg7_10 C B t49 (flo C q544) fsm ep50 dX8_line_183 ?_
        obtain ⟨t51, hf⟩ := pf_ch hf
        obtain ⟨p52, ep52, hf⟩ := pf_b hf
        refine cg1_6 C B t51 (fln B q622) fsm ep52 dX8_line_186 ?_
        obtain ⟨t53, hf⟩ := pf_ch hf
        obtain ⟨p54, ep54, hf⟩ := pf_b hf
        refine cg3_1 C B t53 (fln B q273) fsm ep54 dX8_line_189 ?_
        refine x_aload_n C dX8_line_192 0 rfl ?_
        refine cg7_10 C B t49 (flo C q544) fsm ep50 dX8_line_193 ?_
        refine cg1_6 C B t51 (fln B q622) fsm ep52 dX8_line_196 ?_
        refine cg3_19 C B t53 (fln B q330) fsm dX8_line_199 ?_
        obtain ⟨r55, er55, hf⟩ := pf_b hf
        obtain ⟨j56, i57, ej56, ei57, hf⟩ := pf_tk hf
        refine k_X6_known_X8 C B t49 dK (Nat.le_of_ble_eq_true rfl) (by omega) er55 (Nat.le_of_ble_eq_true rfl) dX8_line_202 (fun q eq => ?_) (fun r58 er58 => ?_)
        · obtain ⟨rfl, rfl, rfl, rfl, rfl⟩ := pf_xr eq hf
          exact c_csT (by omega) (by omega) (c_out C hQ)
        have hf := pf_xl er58 hf
        obtain ⟨r59, er59, hf⟩ := pf_b hf
        obtain ⟨j60, i61, ej60, ei61, hf⟩ := pf_tk hf
        refine k_X15_init_X8 C B dK (Nat.le_of_ble_eq_true rfl) (by omega) er59 (Nat.le_of_ble_eq_true rfl) dX8_line_205 ?_
        obtain ⟨rfl, rfl, rfl, rfl, rfl⟩ := sr_inj hf
        refine c_cs (c0 := c1) (s0 := s1) (by omega) (by omega) ?_
        exact x_ret hQ (c_aret (K := kW K _) C hrt (Or.inl ⟨_, rfl⟩) rfl dX8_line_208)
    · have hf := pf_f w11 hf
      refine x_aload_n C dX8_line_150 0 rfl ?_
      obtain ⟨r62, er62, hf⟩ := pf_b hf
      refine k_X6_next_X8 C B t6 dK (Nat.le_of_ble_eq_true rfl) (by omega) er62 (Nat.le_of_ble_eq_true rfl) dX8_line_151 ?_
      obtain ⟨j66, i67, ej66, ei67, hf⟩ := pf_tk hf
      refine c_new11 C B q1423 dK (by omega) dX8_line_154 ?_
      obtain ⟨q63, eq63, hf⟩ := pf_e hf
      refine x_toprr eq63 ?_
      obtain ⟨da65, eda65, hf⟩ := pf_e hf
      obtain ⟨ga64, ega64, hf⟩ := pf_e hf
      rw [← eq63, ← eda65, ← ega64]
      refine x_dup C dX8_line_157 rfl ?_
      refine x_iload_n C dX8_line_158 1 rfl ?_
      obtain ⟨r68, er68, hf⟩ := pf_b hf
      obtain ⟨j69, i70, ej69, ei70, hf⟩ := pf_tk hf
      refine k_X14_init_X8 C B dK (Nat.le_of_ble_eq_true rfl) (by omega) er68 (Nat.le_of_ble_eq_true rfl) dX8_line_159 ?_
      obtain ⟨rfl, rfl, rfl, rfl, rfl⟩ := sr_inj hf
      refine c_cs (c0 := c1) (s0 := s1) (by omega) (by omega) ?_
      exact x_ret hQ (c_aret (K := kW K _) C hrt (Or.inl ⟨_, rfl⟩) rfl dX8_line_162)
  · have hf := pf_f w9 hf
    refine x_aload_n C dX8_line_104 0 rfl ?_
    obtain ⟨r71, er71, hf⟩ := pf_b hf
    refine k_X6_next_X8 C B t6 dK (Nat.le_of_ble_eq_true rfl) (by omega) er71 (Nat.le_of_ble_eq_true rfl) dX8_line_105 ?_
    obtain ⟨j75, i76, ej75, ei76, hf⟩ := pf_tk hf
    refine c_new10 C B q1406 dK (by omega) dX8_line_108 ?_
    obtain ⟨q72, eq72, hf⟩ := pf_e hf
    refine x_toprr eq72 ?_
    obtain ⟨da74, eda74, hf⟩ := pf_e hf
    obtain ⟨ga73, ega73, hf⟩ := pf_e hf
    rw [← eq72, ← eda74, ← ega73]
    refine x_dup C dX8_line_111 rfl ?_
    refine x_iload_n C dX8_line_112 1 rfl ?_
    refine x_aload_n C dX8_line_113 0 rfl ?_
    refine x_aload_n C dX8_line_114 0 rfl ?_
    obtain ⟨t77, hf⟩ := pf_ch hf
    obtain ⟨p78, ep78, hf⟩ := pf_b hf
    refine cg7_10 C B t77 (flo C q544) fsm ep78 dX8_line_115 ?_
    obtain ⟨t79, hf⟩ := pf_ch hf
    obtain ⟨p80, ep80, hf⟩ := pf_b hf
    refine cg1_6 C B t79 (fln B q622) fsm ep80 dX8_line_118 ?_
    obtain ⟨t81, hf⟩ := pf_ch hf
    obtain ⟨p82, ep82, hf⟩ := pf_b hf
    refine cg3_0 C B t81 (fln B q268) fsm ep82 dX8_line_121 ?_
    refine x_aload_n C dX8_line_124 0 rfl ?_
    refine cg7_10 C B t77 (flo C q544) fsm ep78 dX8_line_125 ?_
    refine cg1_6 C B t79 (fln B q622) fsm ep80 dX8_line_128 ?_
    refine cg3_17 C B t81 (fln B q324) fsm dX8_line_131 ?_
    obtain ⟨r83, er83, hf⟩ := pf_b hf
    obtain ⟨j84, i85, ej84, ei85, hf⟩ := pf_tk hf
    refine k_X6_known_X8 C B t77 dK (Nat.le_of_ble_eq_true rfl) (by omega) er83 (Nat.le_of_ble_eq_true rfl) dX8_line_134 (fun q eq => ?_) (fun r86 er86 => ?_)
    · obtain ⟨rfl, rfl, rfl, rfl, rfl⟩ := pf_xr eq hf
      exact c_csT (by omega) (by omega) (c_out C hQ)
    have hf := pf_xl er86 hf
    obtain ⟨r87, er87, hf⟩ := pf_b hf
    obtain ⟨j88, i89, ej88, ei89, hf⟩ := pf_tk hf
    refine k_X13_init_X8 C B dK (Nat.le_of_ble_eq_true rfl) (by omega) er87 (Nat.le_of_ble_eq_true rfl) dX8_line_137 ?_
    obtain ⟨rfl, rfl, rfl, rfl, rfl⟩ := sr_inj hf
    refine c_cs (c0 := c1) (s0 := s1) (by omega) (by omega) ?_
    exact x_ret hQ (c_aret (K := kW K _) C hrt (Or.inl ⟨_, rfl⟩) rfl dX8_line_140)
def f_X8_line (ts : Nat → Nat) (n : Nat) (x0 : Nat) (g : CG) (d : CD) : Option (XR Nat) := if ht g x0 = 7 then (f_X6_is n g d x0 (ts 11)).bind fun r2 => if r2 = 0 then ((hr g x0 10).bind fun p4 => if ht g p4 = 1 then (hr g p4 6).bind fun p6 => if ht g p6 = 3 then (hr g p6 2).bind fun p8 => (f_X6_look n x0 p8 (hi d p6 20) g d).bind fun r9 => tick r9.2.2.2.1 r9.2.2.2.2 (xcase r9 fun r12 => if ht r9.2.1 x0 = 7 then if (40 : Int32) ≤ (hi r9.2.2.1 x0 9) then (f_X8_line_L87 ts n x0 r12 x0 (0 : Int32) r9.2.1 r9.2.2.1) else (f_X8_line_L87 ts n x0 r12 x0 (1 : Int32) r9.2.1 r9.2.2.1) else none) else none else none) else (if (40 : Int32) ≤ (hi d x0 9) then (f_X8_line_L24 ts n x0 x0 (0 : Int32) g d) else (f_X8_line_L24 ts n x0 x0 (1 : Int32) g d)) else none
set_option maxHeartbeats 4000000 in
theorem w_X8_line_E {K : KT} {T : CT} {r : (Nat ⊕ Nat)} {g9 : CG} {d9 : CD} {c1 s1 : Nat} (ts : Nat → Nat) (n : Nat) (hts : tS T = ts) (C : Kok K cX8_line 3 RX8) (B : CB K T) (hrt : (kMe K).sig.returnType = (some (.object "StatueRent$Line"))) (dK : kR K = rmC 11 c1 s1) (hQ : KQx K T (xoR r) c1 s1 g9 d9) (x0 : Nat) (g : CG) (d : CD) (c0 s0 k m9 : Nat) (hc : c1 = c0 + k) (hs : s1 = s0 + m9) (hf : f_X8_line ts n x0 g d = some (r, g9, d9, k, m9)) : XJ K 3 (Wc K T c0 s0 g d) 0 [(0, .ref x0)] [] := by
  unfold f_X8_line at hf
  refine x_aload_n C dX8_line_0 0 rfl ?_
  refine c_ldcS 27 C B rfl dX8_line_1 ?_
  rw [hts]
  obtain ⟨t1, hf⟩ := pf_ch hf
  obtain ⟨r2, er2, hf⟩ := pf_b hf
  refine k_X6_is_X8 C B t1 dK (Nat.le_of_ble_eq_true rfl) (by omega) er2 (Nat.le_of_ble_eq_true rfl) dX8_line_3 ?_
  refine x_if_eq (tgt := 47) C dX8_line_6 (by decide) (fun w3 => ?_) (fun w3 => ?_)
  · have hf := pf_t w3 hf
    refine x_aload_n C dX8_line_47 0 rfl ?_
    refine x_aload_n C dX8_line_48 0 rfl ?_
    obtain ⟨p4, ep4, hf⟩ := pf_b hf
    refine cg7_10 C B t1 (flo C q544) fsm ep4 dX8_line_49 ?_
    obtain ⟨t5, hf⟩ := pf_ch hf
    obtain ⟨p6, ep6, hf⟩ := pf_b hf
    refine cg1_6 C B t5 (fln B q622) fsm ep6 dX8_line_52 ?_
    obtain ⟨t7, hf⟩ := pf_ch hf
    obtain ⟨p8, ep8, hf⟩ := pf_b hf
    refine cg3_2 C B t7 (fln B q277) fsm ep8 dX8_line_55 ?_
    refine x_aload_n C dX8_line_58 0 rfl ?_
    refine cg7_10 C B t1 (flo C q544) fsm ep4 dX8_line_59 ?_
    refine cg1_6 C B t5 (fln B q622) fsm ep6 dX8_line_62 ?_
    refine cg3_20 C B t7 (fln B q335) fsm dX8_line_65 ?_
    obtain ⟨r9, er9, hf⟩ := pf_b hf
    obtain ⟨j10, i11, ej10, ei11, hf⟩ := pf_tk hf
    refine k_X6_look_X8 C B t1 dK (Nat.le_of_ble_eq_true rfl) (by omega) er9 (Nat.le_of_ble_eq_true rfl) dX8_line_68 (fun q eq => ?_) (fun r12 er12 => ?_)
    · obtain ⟨rfl, rfl, rfl, rfl, rfl⟩ := pf_xr eq hf
      exact c_csT (by omega) (by omega) (c_out C hQ)
    have hf := pf_xl er12 hf
    refine x_istore_n (L' := [(0, .ref x0), (1, .int r12)]) C dX8_line_71 (Nat.le_of_ble_eq_true rfl) [1, 0] rfl ?_
    refine x_aload_n C dX8_line_72 0 rfl ?_
    refine x_aload_n C dX8_line_73 0 rfl ?_
    obtain ⟨t13, hf⟩ := pf_ch hf
    refine cg7_9 C B t13 (flo C q542) fsm dX8_line_74 ?_
    refine x_bipush (40 : Int32) C dX8_line_77 (by decide) ?_
    refine x_icmp_ge (tgt := 86) C dX8_line_79 (by decide) (fun w14 => ?_) (fun w14 => ?_)
    · have hf := pf_t w14 hf
      refine x_iconst (0 : Int32) C dX8_line_86 (by decide) ?_
      exact w_X8_line_87 ts n hts C B hrt dK hQ x0 r12 x0 (0 : Int32) _ _ _ _ _ _ (by omega) (by omega) hf
    · have hf := pf_f w14 hf
      refine x_iconst (1 : Int32) C dX8_line_82 (by decide) ?_
      refine x_goto (tgt := 87) C dX8_line_83 (by decide) ?_
      exact w_X8_line_87 ts n hts C B hrt dK hQ x0 r12 x0 (1 : Int32) _ _ _ _ _ _ (by omega) (by omega) hf
  · have hf := pf_f w3 hf
    refine x_aload_n C dX8_line_9 0 rfl ?_
    refine x_aload_n C dX8_line_10 0 rfl ?_
    refine cg7_9 C B t1 (flo C q542) fsm dX8_line_11 ?_
    refine x_bipush (40 : Int32) C dX8_line_14 (by decide) ?_
    refine x_icmp_ge (tgt := 23) C dX8_line_16 (by decide) (fun w15 => ?_) (fun w15 => ?_)
    · have hf := pf_t w15 hf
      refine x_iconst (0 : Int32) C dX8_line_23 (by decide) ?_
      exact w_X8_line_24 ts n hts C B hrt dK hQ x0 x0 (0 : Int32) _ _ _ _ _ _ (by omega) (by omega) hf
    · have hf := pf_f w15 hf
      refine x_iconst (1 : Int32) C dX8_line_19 (by decide) ?_
      refine x_goto (tgt := 24) C dX8_line_20 (by decide) ?_
      exact w_X8_line_24 ts n hts C B hrt dK hQ x0 x0 (1 : Int32) _ _ _ _ _ _ (by omega) (by omega) hf
theorem met_X8_line {T : CT} {v : (XR Nat)} {n : Nat} {g : CG} {d : CD} {x0 : Nat} {l : Launch}  (hf : f_X8_line (tS T) n x0 g d = some v) : vy_Met l yX8_line (ws_ yX8_line cX8_line 3 (some (.object "StatueRent$Line"))) (rmC 11 v.2.2.2.1 v.2.2.2.2) (va_Pc [.ref x0] (CU T g d)) (Qx T (xoR v.1) v.2.1 v.2.2.1) (Xx T (xoR v.1) v.2.1 v.2.2.1) v.2.2.2.1 v.2.2.2.2 (cA T) :=
  cx_met [.ref x0] RX8 (by decide) rfl (Nat.le_of_ble_eq_true rfl) (fun K hl hR hrt C B hQ => w_X8_line_E (tS T) n rfl C B hrt hR hQ _ _ _ 0 0 _ _ (Nat.zero_add _).symm (Nat.zero_add _).symm hf)
theorem k_X8_line_X8 {K : KT} {T : CT} {c0 s0 c1 s1 dk : Nat} {cc : ByteArray} {nL pc : Nat} {L : List (Nat × Value)} {rest : List Value} {g : CG} {d : CD} {v : (XR Nat)} {ts : Nat → Nat} {n : Nat} {x0 : Nat} (hts : tS T = ts) (C : Kok K cc nL RX8) (B : CB K T) (hta : ht g x0 = 7) (dK : kR K = rmC dk c1 s1) (hd : 11 + 1 ≤ dk) (hcs : c0 + v.2.2.2.1 ≤ c1 ∧ s0 + v.2.2.2.2 ≤ s1) (hf : f_X8_line ts n x0 g d = some v) (hW : (rest.map fun v => v.category).sum ≤ 8) (dd : decode cc pc = .ok (.invokevirtual 32, 3)) (kx : ∀ q, v.1 = .inr q → XT K nL (Wc K T (c0 + v.2.2.2.1) (s0 + v.2.2.2.2) v.2.1 v.2.2.1) pc L rest q) (kk2 : ∀ r, v.1 = .inl r → XJ K nL (Wc K T (c0 + v.2.2.2.1) (s0 + v.2.2.2.2) v.2.1 v.2.2.1) (pc + 3) L ((.ref r) :: rest)) : XJ K nL (Wc K T c0 s0 g d) pc L (.ref x0 :: rest) := by
  subst hts
  have kk3 : ∀ w, xoR v.1 = .inl w → XJ K nL (Wc K T (c0 + v.2.2.2.1) (s0 + v.2.2.2.2) v.2.1 v.2.2.1) (pc + 3) L (w.toList ++ rest) := fun w h => by
    obtain ⟨r, e1, rfl⟩ := xoR_l h
    exact kk2 r e1
  have kx3 : ∀ q, xoR v.1 = .inr q → XT K nL (Wc K T (c0 + v.2.2.2.1) (s0 + v.2.2.2.2) v.2.1 v.2.2.1) pc L rest q := fun q h => kx q (xoR_r h)
  exact cx_callV (rest := rest) (o := xoR v.1) [] 0 rfl C B hta (by decide) (by decide) rfl dK hd (Nat.le_of_ble_eq_true rfl) hcs (lw_V q1371 q1373 qs35 q130 q1374) (by decide +kernel) (met_X8_line hf) rfl hW dd kx3 kk3
theorem k_X6_sign_X8 {K : KT} {T : CT} {c0 s0 c1 s1 dk : Nat} {cc : ByteArray} {nL pc : Nat} {L : List (Nat × Value)} {rest : List Value} {g : CG} {d : CD} {v : (XR Unit)} {n : Nat} {x0 : Nat} {x1 : Int32} (C : Kok K cc nL RX8) (B : CB K T) (hta : ht g x0 = 7) (dK : kR K = rmC dk c1 s1) (hd : 6 + 1 ≤ dk) (hcs : c0 + v.2.2.2.1 ≤ c1 ∧ s0 + v.2.2.2.2 ≤ s1) (hf : f_X6_sign n x0 x1 g d = some v) (hW : (rest.map fun v => v.category).sum ≤ 8) (dd : decode cc pc = .ok (.invokevirtual 36, 3)) (kx : ∀ q, v.1 = .inr q → XT K nL (Wc K T (c0 + v.2.2.2.1) (s0 + v.2.2.2.2) v.2.1 v.2.2.1) pc L rest q) (kk2 : ∀ r, v.1 = .inl r → XJ K nL (Wc K T (c0 + v.2.2.2.1) (s0 + v.2.2.2.2) v.2.1 v.2.2.1) (pc + 3) L (rest)) : XJ K nL (Wc K T c0 s0 g d) pc L (.int x1 :: .ref x0 :: rest) := by
  have kk3 : ∀ w, xoV v.1 = .inl w → XJ K nL (Wc K T (c0 + v.2.2.2.1) (s0 + v.2.2.2.2) v.2.1 v.2.2.1) (pc + 3) L (w.toList ++ rest) := fun w h => by
    obtain ⟨r, e1, rfl⟩ := xoV_l h
    exact kk2 r e1
  have kx3 : ∀ q, xoV v.1 = .inr q → XT K nL (Wc K T (c0 + v.2.2.2.1) (s0 + v.2.2.2.2) v.2.1 v.2.2.1) pc L rest q := fun q h => kx q (xoV_r h)
  have e := hta
  · exact cx_callU (rest := rest) (o := xoV v.1) (x := ⟨"StatueRent$LogReader", "sign", "(I)V"⟩) (owner := "StatueRent$Reader") [.int x1] 1 rfl C B e (by decide) (by decide) rfl dK hd (Nat.le_of_ble_eq_true rfl) hcs q944 q1464 q1465 (C.2.2.2.2.1 _ q1466) q943 q128 rfl (by decide +kernel) (met_X6_sign hf) rfl hW dd kx3 kk3
theorem k_X6_begin_X8 {K : KT} {T : CT} {c0 s0 c1 s1 dk : Nat} {cc : ByteArray} {nL pc : Nat} {L : List (Nat × Value)} {rest : List Value} {g : CG} {d : CD} {v : CD} {n : Nat} {x0 : Nat} (C : Kok K cc nL RX8) (B : CB K T) (hta : ht g x0 = 7) (dK : kR K = rmC dk c1 s1) (hd : 6 + 1 ≤ dk) (hcs : c0 + 0 ≤ c1 ∧ s0 + 0 ≤ s1) (hf : f_X6_begin n g x0 d = some v) (hW : (rest.map fun v => v.category).sum ≤ 8) (dd : decode cc pc = .ok (.invokevirtual 25, 3)) (kk2 : XJ K nL (Wc K T c0 s0 g v) (pc + 3) L (rest)) : XJ K nL (Wc K T c0 s0 g d) pc L (.ref x0 :: rest) := by
  have e := hta
  · exact c_callU (rest := rest) (v := none) (x := ⟨"StatueRent$LogReader", "begin", "()V"⟩) (owner := "StatueRent$Reader") [] 0 rfl C B e (by decide) (by decide) rfl dK hd (Nat.le_of_ble_eq_true rfl) hcs q772 q1368 q1369 (C.2.2.2.2.1 _ q1370) q771 q128 rfl (by decide +kernel) (met_X6_begin hf) rfl hW dd kk2
def f_X8_read_L9 (ts : Nat → Nat) (n : Nat) : Nat → Nat → CG → CD → Option (XR Unit)
  | 0, _, _, _ => none
  | m + 1, x0, g, d => if ht g x0 = 7 then if (hi d x0 3) = 0 then (some (.inl (), g, d, 0, 0)) else ((f_X8_line ts n x0 g d).bind fun r3 => tick r3.2.2.2.1 r3.2.2.2.2 (xcase r3 fun r6 => if ht r3.2.1 x0 = 7 then (f_X6_sign n x0 (59 : Int32) r3.2.1 r3.2.2.1).bind fun r8 => tick r8.2.2.2.1 r8.2.2.2.2 (xcase r8 fun r11 => if ht r8.2.1 x0 = 7 then (hr r8.2.1 x0 8).bind fun p13 => if ht r8.2.1 p13 = 107 then if inb (hi r8.2.2.1 x0 9) (hn r8.2.1 p13) = true then if lnT (ht r8.2.1 r6) = true then ev (wr r8.2.1 p13 (Int32.toNatClampNeg (hi r8.2.2.1 x0 9)) (some r6)) fun ga17 => if ht ga17 x0 = 7 then ev (wi r8.2.2.1 x0 9 ((hi r8.2.2.1 x0 9) + (1 : Int32))) fun da19 => f_X8_read_L9 ts n m x0 ga17 da19 else none else none else none else none else none) else none)) else none
set_option maxHeartbeats 4000000 in
theorem w_X8_read_9 {K : KT} {T : CT} {r : (Unit ⊕ Nat)} {g9 : CG} {d9 : CD} {c1 s1 : Nat} (ts : Nat → Nat) (n : Nat) (hts : tS T = ts) (C : Kok K cX8_read 2 RX8) (B : CB K T) (hrt : (kMe K).sig.returnType = none) (dK : kR K = rmC 12 c1 s1) (hQ : KQx K T (xoV r) c1 s1 g9 d9) : ∀ (m : Nat) (x0 : Nat) (g : CG) (d : CD) (c0 s0 k m9 : Nat) (hc : c1 = c0 + k) (hs : s1 = s0 + m9) (hf : f_X8_read_L9 ts n m x0 g d = some (r, g9, d9, k, m9)), XJ K 2 (Wc K T c0 s0 g d) 9 [(0, .ref x0)] [] := by
  intro m
  induction m with
  | zero => intro x0 g d c0 s0 k m9 hc hs hf; cases hf
  | succ m ih =>
    intro x0 g d c0 s0 k m9 hc hs hf
    rw [f_X8_read_L9] at hf
    refine x_aload_n C dX8_read_9 0 rfl ?_
    obtain ⟨t1, hf⟩ := pf_ch hf
    refine cg7_3 C B t1 (flo C q494) (fsq C q495) dX8_read_10 ?_
    refine x_if_eq (tgt := 50) C dX8_read_13 (by decide) (fun w2 => ?_) (fun w2 => ?_)
    · have hf := pf_t w2 hf
      obtain ⟨rfl, rfl, rfl, rfl, rfl⟩ := sr_inj hf
      refine c_cs (c0 := c1) (s0 := s1) (by omega) (by omega) ?_
      exact x_ret hQ (c_vret (K := kW K _) C hrt rfl dX8_read_50)
    · have hf := pf_f w2 hf
      refine x_aload_n C dX8_read_16 0 rfl ?_
      obtain ⟨r3, er3, hf⟩ := pf_b hf
      obtain ⟨j4, i5, ej4, ei5, hf⟩ := pf_tk hf
      refine k_X8_line_X8 hts C B t1 dK (Nat.le_of_ble_eq_true rfl) (by omega) er3 (Nat.le_of_ble_eq_true rfl) dX8_read_17 (fun q eq => ?_) (fun r6 er6 => ?_)
      · obtain ⟨rfl, rfl, rfl, rfl, rfl⟩ := pf_xr eq hf
        exact c_csT (by omega) (by omega) (c_out C hQ)
      have hf := pf_xl er6 hf
      refine x_astore_n (L' := [(0, .ref x0), (1, .ref r6)]) C dX8_read_20 (Nat.le_of_ble_eq_true rfl) [1, 0] rfl ?_
      refine x_aload_n C dX8_read_21 0 rfl ?_
      refine x_bipush (59 : Int32) C dX8_read_22 (by decide) ?_
      obtain ⟨t7, hf⟩ := pf_ch hf
      obtain ⟨r8, er8, hf⟩ := pf_b hf
      obtain ⟨j9, i10, ej9, ei10, hf⟩ := pf_tk hf
      refine k_X6_sign_X8 C B t7 dK (Nat.le_of_ble_eq_true rfl) (by omega) er8 (Nat.le_of_ble_eq_true rfl) dX8_read_24 (fun q eq => ?_) (fun r11 er11 => ?_)
      · obtain ⟨rfl, rfl, rfl, rfl, rfl⟩ := pf_xr eq hf
        exact c_csT (by omega) (by omega) (c_out C hQ)
      have hf := pf_xl er11 hf
      refine x_aload_n C dX8_read_27 0 rfl ?_
      obtain ⟨t12, hf⟩ := pf_ch hf
      obtain ⟨p13, ep13, hf⟩ := pf_b hf
      refine cg7_8 C B t12 (flo C q540) fsm ep13 dX8_read_28 ?_
      refine x_aload_n C dX8_read_31 0 rfl ?_
      refine cg7_9 C B t12 (flo C q542) fsm dX8_read_32 ?_
      refine x_aload_n C dX8_read_35 1 rfl ?_
      obtain ⟨t14, hf⟩ := pf_ch hf
      obtain ⟨h15, hf⟩ := pf_in hf
      obtain ⟨t16, hf⟩ := pf_ch hf
      refine c_astL C B t14 t16 h15 dX8_read_36 ?_
      obtain ⟨ga17, ega17, hf⟩ := pf_e hf
      refine c_renG ega17 ?_
      refine x_aload_n C dX8_read_37 0 rfl ?_
      refine x_dup C dX8_read_38 rfl ?_
      obtain ⟨t18, hf⟩ := pf_ch hf
      refine cg7_9 C B t18 (flo C q542) fsm dX8_read_39 ?_
      refine x_iconst (1 : Int32) C dX8_read_42 (by decide) ?_
      refine x_iadd C dX8_read_43 ?_
      refine cp7_9 C B t18 (flo C q542) fsm dX8_read_44 ?_
      obtain ⟨da19, eda19, hf⟩ := pf_e hf
      refine c_ren eda19 ?_
      refine x_goto (tgt := 9) C dX8_read_47 (by decide) ?_
      refine x_sub [0] (L' := [(0, .ref x0)]) rfl ?_
      exact ih x0 _ _ _ _ _ _ (by omega) (by omega) hf
def f_X8_read (ts : Nat → Nat) (n : Nat) (x0 : Nat) (g : CG) (d : CD) : Option (XR Unit) := if ht g x0 = 7 then ev (wi d x0 9 (0 : Int32)) fun da2 => (f_X6_begin n g x0 da2).bind fun r3 => f_X8_read_L9 ts n n x0 g r3 else none
set_option maxHeartbeats 4000000 in
theorem w_X8_read_E {K : KT} {T : CT} {r : (Unit ⊕ Nat)} {g9 : CG} {d9 : CD} {c1 s1 : Nat} (ts : Nat → Nat) (n : Nat) (hts : tS T = ts) (C : Kok K cX8_read 2 RX8) (B : CB K T) (hrt : (kMe K).sig.returnType = none) (dK : kR K = rmC 12 c1 s1) (hQ : KQx K T (xoV r) c1 s1 g9 d9) (x0 : Nat) (g : CG) (d : CD) (c0 s0 k m9 : Nat) (hc : c1 = c0 + k) (hs : s1 = s0 + m9) (hf : f_X8_read ts n x0 g d = some (r, g9, d9, k, m9)) : XJ K 2 (Wc K T c0 s0 g d) 0 [(0, .ref x0)] [] := by
  unfold f_X8_read at hf
  refine x_aload_n C dX8_read_0 0 rfl ?_
  refine x_iconst (0 : Int32) C dX8_read_1 (by decide) ?_
  obtain ⟨t1, hf⟩ := pf_ch hf
  refine cp7_9 C B t1 (flo C q542) fsm dX8_read_2 ?_
  obtain ⟨da2, eda2, hf⟩ := pf_e hf
  refine c_ren eda2 ?_
  refine x_aload_n C dX8_read_5 0 rfl ?_
  obtain ⟨r3, er3, hf⟩ := pf_b hf
  refine k_X6_begin_X8 C B t1 dK (Nat.le_of_ble_eq_true rfl) (by omega) er3 (Nat.le_of_ble_eq_true rfl) dX8_read_6 ?_
  exact w_X8_read_9 ts n hts C B hrt dK hQ n x0 _ _ _ _ _ _ (by omega) (by omega) hf
theorem met_X8_read {T : CT} {v : (XR Unit)} {n : Nat} {g : CG} {d : CD} {x0 : Nat} {l : Launch}  (hf : f_X8_read (tS T) n x0 g d = some v) : vy_Met l yX8_read (ws_ yX8_read cX8_read 2 none) (rmC 12 v.2.2.2.1 v.2.2.2.2) (va_Pc [.ref x0] (CU T g d)) (Qx T (xoV v.1) v.2.1 v.2.2.1) (Xx T (xoV v.1) v.2.1 v.2.2.1) v.2.2.2.1 v.2.2.2.2 (cA T) :=
  cx_met [.ref x0] RX8 (by decide) rfl (Nat.le_of_ble_eq_true rfl) (fun K hl hR hrt C B hQ => w_X8_read_E (tS T) n rfl C B hrt hR hQ _ _ _ 0 0 _ _ (Nat.zero_add _).symm (Nat.zero_add _).symm hf)
