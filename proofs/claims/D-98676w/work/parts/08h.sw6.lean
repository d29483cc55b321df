set_option maxRecDepth 100000
def RS9 (l : Launch) (T : CT) (rf : Nat) (rs : Nat → Int32 → CG → CD → Option (XR Nat)) : Prop := ∀ (x : Nat) (k : Int32) (g : CG) (d : CD) (v : XR Nat), rs x k g d = some v → vy_Met l yX9_single (ws_ yX9_single cX9_single 8 (some (.object "StatueRent$Cond"))) (rmC (20 + 3 * rf) v.2.2.2.1 v.2.2.2.2) (va_Pc [.ref x, .int k] (CU T g d)) (Qx T (xoR v.1) v.2.1 v.2.2.1) (Xx T (xoR v.1) v.2.1 v.2.2.1) v.2.2.2.1 v.2.2.2.2 (cA T)
theorem k_X9_single_X9 {K : KT} {T : CT} {c0 s0 c1 s1 dk : Nat} {cc : ByteArray} {nL pc : Nat} {L : List (Nat × Value)} {rest : List Value} {g : CG} {d : CD} {v : (XR Nat)} {x0 : Nat} {x1 : Int32} {rs : Nat → Int32 → CG → CD → Option (XR Nat)} {rf : Nat} (hrs : RS9 (kL K) T rf rs) (C : Kok K cc nL RX9) (B : CB K T) (hta : ht g x0 = 8) (dK : kR K = rmC dk c1 s1) (hd : (20 + 3 * rf) + 1 ≤ dk) (hcs : c0 + v.2.2.2.1 ≤ c1 ∧ s0 + v.2.2.2.2 ≤ s1) (hf : rs x0 x1 g d = some v) (hW : (rest.map fun v => v.category).sum ≤ 8) (dd : decode cc pc = .ok (.invokevirtual 78, 3)) (kx : ∀ q, v.1 = .inr q → XT K nL (Wc K T (c0 + v.2.2.2.1) (s0 + v.2.2.2.2) v.2.1 v.2.2.1) pc L rest q) (kk2 : ∀ r, v.1 = .inl r → XJ K nL (Wc K T (c0 + v.2.2.2.1) (s0 + v.2.2.2.2) v.2.1 v.2.2.1) (pc + 3) L ((.ref r) :: rest)) : XJ K nL (Wc K T c0 s0 g d) pc L (.int x1 :: .ref x0 :: rest) := by
  have kk3 : ∀ w, xoR v.1 = .inl w → XJ K nL (Wc K T (c0 + v.2.2.2.1) (s0 + v.2.2.2.2) v.2.1 v.2.2.1) (pc + 3) L (w.toList ++ rest) := fun w h => by
    obtain ⟨r, e1, rfl⟩ := xoR_l h
    exact kk2 r e1
  have kx3 : ∀ q, xoR v.1 = .inr q → XT K nL (Wc K T (c0 + v.2.2.2.1) (s0 + v.2.2.2.2) v.2.1 v.2.2.1) pc L rest q := fun q h => kx q (xoR_r h)
  exact cx_callV (rest := rest) (o := xoR v.1) [.int x1] 1 rfl C B hta (by decide) (by decide) rfl dK hd (Nat.le_of_ble_eq_true rfl) hcs (lw_V q1534 q1536 qs38 q132 q1537) (by decide +kernel) (hrs _ _ _ _ _ hf) rfl hW dd kx3 kk3
theorem k_X6_is_X9 {K : KT} {T : CT} {c0 s0 c1 s1 dk : Nat} {cc : ByteArray} {nL pc : Nat} {L : List (Nat × Value)} {rest : List Value} {g : CG} {d : CD} {v : Int32} {n : Nat} {x0 : Nat} {x1 : Nat} (C : Kok K cc nL RX9) (B : CB K T) (hta : ht g x0 = 8) (dK : kR K = rmC dk c1 s1) (hd : 6 + 1 ≤ dk) (hcs : c0 + 0 ≤ c1 ∧ s0 + 0 ≤ s1) (hf : f_X6_is n g d x0 x1 = some v) (hW : (rest.map fun v => v.category).sum ≤ 8) (dd : decode cc pc = .ok (.invokevirtual 66, 3)) (kk2 : XJ K nL (Wc K T c0 s0 g d) (pc + 3) L ((.int v) :: rest)) : XJ K nL (Wc K T c0 s0 g d) pc L (.ref x1 :: .ref x0 :: rest) := by
  have e := hta
  · exact c_callU (rest := rest) (v := (some (.int v))) (x := ⟨"StatueRent$SentenceReader", "is", "(Ljava/lang/String;)Z"⟩) (owner := "StatueRent$Reader") [.ref x1] 1 rfl C B e (by decide) (by decide) rfl dK hd (Nat.le_of_ble_eq_true rfl) hcs q811 q1539 q1540 (C.2.2.2.2.1 _ q1541) q806 q128 rfl (by decide +kernel) (met_X6_is hf) rfl hW dd kk2
theorem k_X6_next_X9 {K : KT} {T : CT} {c0 s0 c1 s1 dk : Nat} {cc : ByteArray} {nL pc : Nat} {L : List (Nat × Value)} {rest : List Value} {g : CG} {d : CD} {v : CD} {n : Nat} {x0 : Nat} (C : Kok K cc nL RX9) (B : CB K T) (hta : ht g x0 = 8) (dK : kR K = rmC dk c1 s1) (hd : 5 + 1 ≤ dk) (hcs : c0 + 0 ≤ c1 ∧ s0 + 0 ≤ s1) (hf : f_X6_next n g x0 d = some v) (hW : (rest.map fun v => v.category).sum ≤ 8) (dd : decode cc pc = .ok (.invokevirtual 70, 3)) (kk2 : XJ K nL (Wc K T c0 s0 g v) (pc + 3) L (rest)) : XJ K nL (Wc K T c0 s0 g d) pc L (.ref x0 :: rest) := by
  have e := hta
  · exact c_callU (rest := rest) (v := none) (x := ⟨"StatueRent$SentenceReader", "next", "()V"⟩) (owner := "StatueRent$Reader") [] 0 rfl C B e (by decide) (by decide) rfl dK hd (Nat.le_of_ble_eq_true rfl) hcs q779 q1552 q1553 (C.2.2.2.2.1 _ q1554) q774 q128 rfl (by decide +kernel) (met_X6_next hf) rfl hW dd kk2
theorem k_X20_init_X9 {K : KT} {T : CT} {c0 s0 c1 s1 dk : Nat} {cc : ByteArray} {nL pc : Nat} {L : List (Nat × Value)} {rest : List Value} {g : CG} {d : CD} {v : (SR Unit)} {x0 : Nat} {x1 : Nat} {x2 : Nat} (C : Kok K cc nL RX9) (B : CB K T) (dK : kR K = rmC dk c1 s1) (hd : 3 + 1 ≤ dk) (hcs : c0 + v.2.2.2.1 ≤ c1 ∧ s0 + v.2.2.2.2 ≤ s1) (hf : f_X20_init x0 x1 x2 g d = some v) (hW : (rest.map fun v => v.category).sum ≤ 8) (dd : decode cc pc = .ok (.invokespecial 85, 3)) (kk2 : XJ K nL (Wc K T (c0 + v.2.2.2.1) (s0 + v.2.2.2.2) v.2.1 v.2.2.1) (pc + 3) L (rest)) : XJ K nL (Wc K T c0 s0 g d) pc L (.ref x2 :: .ref x1 :: .ref x0 :: rest) := by
  exact c_callI (rest := rest) (v := none) [.ref x1, .ref x2] 2 rfl C B dK hd (Nat.le_of_ble_eq_true rfl) hcs q1605 q1603 q1604 q153 rfl (by decide +kernel) (met_X20_init hf) rfl hW dd kk2
def f_X9_both_L6 (ts : Nat → Nat) (n : Nat) (rs : Nat → Int32 → CG → CD → Option (XR Nat)) : Nat → Nat → Int32 → Nat → CG → CD → Option (XR Nat)
  | 0, _, _, _, _, _ => none
  | m + 1, x0, x1, x2, g, d => if ht g x0 = 8 then (f_X6_is n g d x0 (ts 13)).bind fun r2 => if r2 = 0 then (some (.inl x2, g, d, 0, 0)) else ((f_X6_next n g x0 d).bind fun r4 => tick 1 2 (ev (hz g) fun q5 => ev (nd r4 q5) fun da7 => ev (na g 17 0) fun ga6 => if ht ga6 x0 = 8 then (rs x0 x1 ga6 da7).bind fun r11 => tick r11.2.2.2.1 r11.2.2.2.2 (xcase r11 fun r14 => (f_X20_init q5 x2 r14 r11.2.1 r11.2.2.1).bind fun r15 => tick r15.2.2.2.1 r15.2.2.2.2 (f_X9_both_L6 ts n rs m x0 x1 q5 r15.2.1 r15.2.2.1)) else none)) else none
set_option maxHeartbeats 4000000 in
theorem w_X9_both_6 {K : KT} {T : CT} {r : (Nat ⊕ Nat)} {g9 : CG} {d9 : CD} {c1 s1 : Nat} (ts : Nat → Nat) (n : Nat) (rs : Nat → Int32 → CG → CD → Option (XR Nat)) (hts : tS T = ts) {rf : Nat} (hrs : RS9 (kL K) T rf rs) (C : Kok K cX9_both 3 RX9) (B : CB K T) (hrt : (kMe K).sig.returnType = (some (.object "StatueRent$Cond"))) (dK : kR K = rmC (20 + 3 * rf + 1) c1 s1) (hQ : KQx K T (xoR r) c1 s1 g9 d9) : ∀ (m : Nat) (x0 : Nat) (x1 : Int32) (x2 : Nat) (g : CG) (d : CD) (c0 s0 k m9 : Nat) (hc : c1 = c0 + k) (hs : s1 = s0 + m9) (hf : f_X9_both_L6 ts n rs m x0 x1 x2 g d = some (r, g9, d9, k, m9)), XJ K 3 (Wc K T c0 s0 g d) 6 [(0, .ref x0), (1, .int x1), (2, .ref x2)] [] := by
  intro m
  induction m with
  | zero => intro x0 x1 x2 g d c0 s0 k m9 hc hs hf; cases hf
  | succ m ih =>
    intro x0 x1 x2 g d c0 s0 k m9 hc hs hf
    rw [f_X9_both_L6] at hf
    refine x_aload_n C dX9_both_6 0 rfl ?_
    refine c_ldcS 42 C B rfl dX9_both_7 ?_
    rw [hts]
    obtain ⟨t1, hf⟩ := pf_ch hf
    obtain ⟨r2, er2, hf⟩ := pf_b hf
    refine k_X6_is_X9 C B t1 dK (by omega) (by omega) er2 (Nat.le_of_ble_eq_true rfl) dX9_both_9 ?_
    refine x_if_eq (tgt := 36) C dX9_both_12 (by decide) (fun w3 => ?_) (fun w3 => ?_)
    · have hf := pf_t w3 hf
      refine x_aload_n C dX9_both_36 2 rfl ?_
      obtain ⟨rfl, rfl, rfl, rfl, rfl⟩ := sr_inj hf
      refine c_cs (c0 := c1) (s0 := s1) (by omega) (by omega) ?_
      exact x_ret hQ (c_aret (K := kW K _) C hrt (Or.inl ⟨_, rfl⟩) rfl dX9_both_37)
    · have hf := pf_f w3 hf
      refine x_aload_n C dX9_both_15 0 rfl ?_
      obtain ⟨r4, er4, hf⟩ := pf_b hf
      refine k_X6_next_X9 C B t1 dK (by omega) (by omega) er4 (Nat.le_of_ble_eq_true rfl) dX9_both_16 ?_
      obtain ⟨j8, i9, ej8, ei9, hf⟩ := pf_tk hf
      refine c_new17 C B q1601 dK (by omega) dX9_both_19 ?_
      obtain ⟨q5, eq5, hf⟩ := pf_e hf
      refine x_toprr eq5 ?_
      obtain ⟨da7, eda7, hf⟩ := pf_e hf
      obtain ⟨ga6, ega6, hf⟩ := pf_e hf
      rw [← eq5, ← eda7, ← ega6]
      refine x_dup C dX9_both_22 rfl ?_
      refine x_aload_n C dX9_both_23 2 rfl ?_
      refine x_aload_n C dX9_both_24 0 rfl ?_
      refine x_iload_n C dX9_both_25 1 rfl ?_
      obtain ⟨t10, hf⟩ := pf_ch hf
      obtain ⟨r11, er11, hf⟩ := pf_b hf
      obtain ⟨j12, i13, ej12, ei13, hf⟩ := pf_tk hf
      refine k_X9_single_X9 hrs C B t10 dK (by omega) (by omega) er11 (Nat.le_of_ble_eq_true rfl) dX9_both_26 (fun q eq => ?_) (fun r14 er14 => ?_)
      · obtain ⟨rfl, rfl, rfl, rfl, rfl⟩ := pf_xr eq hf
        exact c_csT (by omega) (by omega) (c_out C hQ)
      have hf := pf_xl er14 hf
      obtain ⟨r15, er15, hf⟩ := pf_b hf
      obtain ⟨j16, i17, ej16, ei17, hf⟩ := pf_tk hf
      refine k_X20_init_X9 C B dK (by omega) (by omega) er15 (Nat.le_of_ble_eq_true rfl) dX9_both_29 ?_
      refine x_astore_n (L' := [(0, .ref x0), (1, .int x1), (2, .ref q5)]) C dX9_both_32 (Nat.le_of_ble_eq_true rfl) [1, 2, 0] rfl ?_
      refine x_goto (tgt := 6) C dX9_both_33 (by decide) ?_
      exact ih x0 x1 q5 _ _ _ _ _ _ (by omega) (by omega) hf
def f_X9_both (ts : Nat → Nat) (n : Nat) (rs : Nat → Int32 → CG → CD → Option (XR Nat)) (x0 : Nat) (x1 : Int32) (g : CG) (d : CD) : Option (XR Nat) := if ht g x0 = 8 then (rs x0 x1 g d).bind fun r2 => tick r2.2.2.2.1 r2.2.2.2.2 (xcase r2 fun r5 => f_X9_both_L6 ts n rs n x0 x1 r5 r2.2.1 r2.2.2.1) else none
set_option maxHeartbeats 4000000 in
theorem w_X9_both_E {K : KT} {T : CT} {r : (Nat ⊕ Nat)} {g9 : CG} {d9 : CD} {c1 s1 : Nat} (ts : Nat → Nat) (n : Nat) (rs : Nat → Int32 → CG → CD → Option (XR Nat)) (hts : tS T = ts) {rf : Nat} (hrs : RS9 (kL K) T rf rs) (C : Kok K cX9_both 3 RX9) (B : CB K T) (hrt : (kMe K).sig.returnType = (some (.object "StatueRent$Cond"))) (dK : kR K = rmC (20 + 3 * rf + 1) c1 s1) (hQ : KQx K T (xoR r) c1 s1 g9 d9) (x0 : Nat) (x1 : Int32) (g : CG) (d : CD) (c0 s0 k m9 : Nat) (hc : c1 = c0 + k) (hs : s1 = s0 + m9) (hf : f_X9_both ts n rs x0 x1 g d = some (r, g9, d9, k, m9)) : XJ K 3 (Wc K T c0 s0 g d) 0 [(0, .ref x0), (1, .int x1)] [] := by
  unfold f_X9_both at hf
  refine x_aload_n C dX9_both_0 0 rfl ?_
  refine x_iload_n C dX9_both_1 1 rfl ?_
  obtain ⟨t1, hf⟩ := pf_ch hf
  obtain ⟨r2, er2, hf⟩ := pf_b hf
  obtain ⟨j3, i4, ej3, ei4, hf⟩ := pf_tk hf
  refine k_X9_single_X9 hrs C B t1 dK (by omega) (by omega) er2 (Nat.le_of_ble_eq_true rfl) dX9_both_2 (fun q eq => ?_) (fun r5 er5 => ?_)
  · obtain ⟨rfl, rfl, rfl, rfl, rfl⟩ := pf_xr eq hf
    exact c_csT (by omega) (by omega) (c_out C hQ)
  have hf := pf_xl er5 hf
  refine x_astore_n (L' := [(0, .ref x0), (1, .int x1), (2, .ref r5)]) C dX9_both_5 (Nat.le_of_ble_eq_true rfl) [1, 2, 0] rfl ?_
  exact w_X9_both_6 ts n rs hts hrs C B hrt dK hQ n x0 x1 r5 _ _ _ _ _ _ (by omega) (by omega) hf
theorem met_X9_both {T : CT} {v : (XR Nat)} {n : Nat} {g : CG} {d : CD} {x0 : Nat} {x1 : Int32} {rs : Nat → Int32 → CG → CD → Option (XR Nat)} {rf : Nat} {l : Launch} (hrs : RS9 l T rf rs) (hf : f_X9_both (tS T) n rs x0 x1 g d = some v) : vy_Met l yX9_both (ws_ yX9_both cX9_both 3 (some (.object "StatueRent$Cond"))) (rmC (20 + 3 * rf + 1) v.2.2.2.1 v.2.2.2.2) (va_Pc [.ref x0, .int x1] (CU T g d)) (Qx T (xoR v.1) v.2.1 v.2.2.1) (Xx T (xoR v.1) v.2.1 v.2.2.1) v.2.2.2.1 v.2.2.2.2 (cA T) :=
  cx_met [.ref x0, .int x1] RX9 (by decide) rfl (Nat.le_of_ble_eq_true rfl) (fun K hl hR hrt C B hQ => by subst hl; exact w_X9_both_E (tS T) n rs rfl hrs C B hrt hR hQ _ _ _ _ 0 0 _ _ (Nat.zero_add _).symm (Nat.zero_add _).symm hf)
theorem k_X9_both_X9 {K : KT} {T : CT} {c0 s0 c1 s1 dk : Nat} {cc : ByteArray} {nL pc : Nat} {L : List (Nat × Value)} {rest : List Value} {g : CG} {d : CD} {v : (XR Nat)} {ts : Nat → Nat} {n : Nat} {x0 : Nat} {x1 : Int32} (hts : tS T = ts) {rs : Nat → Int32 → CG → CD → Option (XR Nat)} {rf : Nat} (hrs : RS9 (kL K) T rf rs) (C : Kok K cc nL RX9) (B : CB K T) (hta : ht g x0 = 8) (dK : kR K = rmC dk c1 s1) (hd : (20 + 3 * rf + 1) + 1 ≤ dk) (hcs : c0 + v.2.2.2.1 ≤ c1 ∧ s0 + v.2.2.2.2 ≤ s1) (hf : f_X9_both ts n rs x0 x1 g d = some v) (hW : (rest.map fun v => v.category).sum ≤ 8) (dd : decode cc pc = .ok (.invokevirtual 61, 3)) (kx : ∀ q, v.1 = .inr q → XT K nL (Wc K T (c0 + v.2.2.2.1) (s0 + v.2.2.2.2) v.2.1 v.2.2.1) pc L rest q) (kk2 : ∀ r, v.1 = .inl r → XJ K nL (Wc K T (c0 + v.2.2.2.1) (s0 + v.2.2.2.2) v.2.1 v.2.2.1) (pc + 3) L ((.ref r) :: rest)) : XJ K nL (Wc K T c0 s0 g d) pc L (.int x1 :: .ref x0 :: rest) := by
  subst hts
  have kk3 : ∀ w, xoR v.1 = .inl w → XJ K nL (Wc K T (c0 + v.2.2.2.1) (s0 + v.2.2.2.2) v.2.1 v.2.2.1) (pc + 3) L (w.toList ++ rest) := fun w h => by
    obtain ⟨r, e1, rfl⟩ := xoR_l h
    exact kk2 r e1
  have kx3 : ∀ q, xoR v.1 = .inr q → XT K nL (Wc K T (c0 + v.2.2.2.1) (s0 + v.2.2.2.2) v.2.1 v.2.2.1) pc L rest q := fun q h => kx q (xoR_r h)
  exact cx_callV (rest := rest) (o := xoR v.1) [.int x1] 1 rfl C B hta (by decide) (by decide) rfl dK hd (Nat.le_of_ble_eq_true rfl) hcs (lw_V q1530 q1532 qs37 q132 q1533) (by decide +kernel) (met_X9_both hrs hf) rfl hW dd kx3 kk3
theorem k_X21_init_X9 {K : KT} {T : CT} {c0 s0 c1 s1 dk : Nat} {cc : ByteArray} {nL pc : Nat} {L : List (Nat × Value)} {rest : List Value} {g : CG} {d : CD} {v : (SR Unit)} {x0 : Nat} {x1 : Nat} {x2 : Nat} (C : Kok K cc nL RX9) (B : CB K T) (dK : kR K = rmC dk c1 s1) (hd : 3 + 1 ≤ dk) (hcs : c0 + v.2.2.2.1 ≤ c1 ∧ s0 + v.2.2.2.2 ≤ s1) (hf : f_X21_init x0 x1 x2 g d = some v) (hW : (rest.map fun v => v.category).sum ≤ 8) (dd : decode cc pc = .ok (.invokespecial 75, 3)) (kk2 : XJ K nL (Wc K T (c0 + v.2.2.2.1) (s0 + v.2.2.2.2) v.2.1 v.2.2.1) (pc + 3) L (rest)) : XJ K nL (Wc K T c0 s0 g d) pc L (.ref x2 :: .ref x1 :: .ref x0 :: rest) := by
  exact c_callI (rest := rest) (v := none) [.ref x1, .ref x2] 2 rfl C B dK hd (Nat.le_of_ble_eq_true rfl) hcs q1619 q1617 q1618 q154 rfl (by decide +kernel) (met_X21_init hf) rfl hW dd kk2
def f_X9_any_L6 (ts : Nat → Nat) (n : Nat) (rs : Nat → Int32 → CG → CD → Option (XR Nat)) : Nat → Nat → Int32 → Nat → CG → CD → Option (XR Nat)
  | 0, _, _, _, _, _ => none
  | m + 1, x0, x1, x2, g, d => if ht g x0 = 8 then (f_X6_is n g d x0 (ts 12)).bind fun r2 => if r2 = 0 then (some (.inl x2, g, d, 0, 0)) else ((f_X6_next n g x0 d).bind fun r4 => tick 1 2 (ev (hz g) fun q5 => ev (nd r4 q5) fun da7 => ev (na g 18 0) fun ga6 => if ht ga6 x0 = 8 then (f_X9_both ts n rs x0 x1 ga6 da7).bind fun r11 => tick r11.2.2.2.1 r11.2.2.2.2 (xcase r11 fun r14 => (f_X21_init q5 x2 r14 r11.2.1 r11.2.2.1).bind fun r15 => tick r15.2.2.2.1 r15.2.2.2.2 (f_X9_any_L6 ts n rs m x0 x1 q5 r15.2.1 r15.2.2.1)) else none)) else none
set_option maxHeartbeats 4000000 in
theorem w_X9_any_6 {K : KT} {T : CT} {r : (Nat ⊕ Nat)} {g9 : CG} {d9 : CD} {c1 s1 : Nat} (ts : Nat → Nat) (n : Nat) (rs : Nat → Int32 → CG → CD → Option (XR Nat)) (hts : tS T = ts) {rf : Nat} (hrs : RS9 (kL K) T rf rs) (C : Kok K cX9_any 3 RX9) (B : CB K T) (hrt : (kMe K).sig.returnType = (some (.object "StatueRent$Cond"))) (dK : kR K = rmC (20 + 3 * rf + 2) c1 s1) (hQ : KQx K T (xoR r) c1 s1 g9 d9) : ∀ (m : Nat) (x0 : Nat) (x1 : Int32) (x2 : Nat) (g : CG) (d : CD) (c0 s0 k m9 : Nat) (hc : c1 = c0 + k) (hs : s1 = s0 + m9) (hf : f_X9_any_L6 ts n rs m x0 x1 x2 g d = some (r, g9, d9, k, m9)), XJ K 3 (Wc K T c0 s0 g d) 6 [(0, .ref x0), (1, .int x1), (2, .ref x2)] [] := by
  intro m
  induction m with
  | zero => intro x0 x1 x2 g d c0 s0 k m9 hc hs hf; cases hf
  | succ m ih =>
    intro x0 x1 x2 g d c0 s0 k m9 hc hs hf
    rw [f_X9_any_L6] at hf
    refine x_aload_n C dX9_any_6 0 rfl ?_
    refine c_ldcS 43 C B rfl dX9_any_7 ?_
    rw [hts]
    obtain ⟨t1, hf⟩ := pf_ch hf
    obtain ⟨r2, er2, hf⟩ := pf_b hf
    refine k_X6_is_X9 C B t1 dK (by omega) (by omega) er2 (Nat.le_of_ble_eq_true rfl) dX9_any_9 ?_
    refine x_if_eq (tgt := 36) C dX9_any_12 (by decide) (fun w3 => ?_) (fun w3 => ?_)
    · have hf := pf_t w3 hf
      refine x_aload_n C dX9_any_36 2 rfl ?_
      obtain ⟨rfl, rfl, rfl, rfl, rfl⟩ := sr_inj hf
      refine c_cs (c0 := c1) (s0 := s1) (by omega) (by omega) ?_
      exact x_ret hQ (c_aret (K := kW K _) C hrt (Or.inl ⟨_, rfl⟩) rfl dX9_any_37)
    · have hf := pf_f w3 hf
      refine x_aload_n C dX9_any_15 0 rfl ?_
      obtain ⟨r4, er4, hf⟩ := pf_b hf
      refine k_X6_next_X9 C B t1 dK (by omega) (by omega) er4 (Nat.le_of_ble_eq_true rfl) dX9_any_16 ?_
      obtain ⟨j8, i9, ej8, ei9, hf⟩ := pf_tk hf
      refine c_new18 C B q1615 dK (by omega) dX9_any_19 ?_
      obtain ⟨q5, eq5, hf⟩ := pf_e hf
      refine x_toprr eq5 ?_
      obtain ⟨da7, eda7, hf⟩ := pf_e hf
      obtain ⟨ga6, ega6, hf⟩ := pf_e hf
      rw [← eq5, ← eda7, ← ega6]
      refine x_dup C dX9_any_22 rfl ?_
      refine x_aload_n C dX9_any_23 2 rfl ?_
      refine x_aload_n C dX9_any_24 0 rfl ?_
      refine x_iload_n C dX9_any_25 1 rfl ?_
      obtain ⟨t10, hf⟩ := pf_ch hf
      obtain ⟨r11, er11, hf⟩ := pf_b hf
      obtain ⟨j12, i13, ej12, ei13, hf⟩ := pf_tk hf
      refine k_X9_both_X9 hts hrs C B t10 dK (by omega) (by omega) er11 (Nat.le_of_ble_eq_true rfl) dX9_any_26 (fun q eq => ?_) (fun r14 er14 => ?_)
      · obtain ⟨rfl, rfl, rfl, rfl, rfl⟩ := pf_xr eq hf
        exact c_csT (by omega) (by omega) (c_out C hQ)
      have hf := pf_xl er14 hf
      obtain ⟨r15, er15, hf⟩ := pf_b hf
      obtain ⟨j16, i17, ej16, ei17, hf⟩ := pf_tk hf
      refine k_X21_init_X9 C B dK (by omega) (by omega) er15 (Nat.le_of_ble_eq_true rfl) dX9_any_29 ?_
      refine x_astore_n (L' := [(0, .ref x0), (1, .int x1), (2, .ref q5)]) C dX9_any_32 (Nat.le_of_ble_eq_true rfl) [1, 2, 0] rfl ?_
      refine x_goto (tgt := 6) C dX9_any_33 (by decide) ?_
      exact ih x0 x1 q5 _ _ _ _ _ _ (by omega) (by omega) hf
def f_X9_any (ts : Nat → Nat) (n : Nat) (rs : Nat → Int32 → CG → CD → Option (XR Nat)) (x0 : Nat) (x1 : Int32) (g : CG) (d : CD) : Option (XR Nat) := if ht g x0 = 8 then (f_X9_both ts n rs x0 x1 g d).bind fun r2 => tick r2.2.2.2.1 r2.2.2.2.2 (xcase r2 fun r5 => f_X9_any_L6 ts n rs n x0 x1 r5 r2.2.1 r2.2.2.1) else none
set_option maxHeartbeats 4000000 in
theorem w_X9_any_E {K : KT} {T : CT} {r : (Nat ⊕ Nat)} {g9 : CG} {d9 : CD} {c1 s1 : Nat} (ts : Nat → Nat) (n : Nat) (rs : Nat → Int32 → CG → CD → Option (XR Nat)) (hts : tS T = ts) {rf : Nat} (hrs : RS9 (kL K) T rf rs) (C : Kok K cX9_any 3 RX9) (B : CB K T) (hrt : (kMe K).sig.returnType = (some (.object "StatueRent$Cond"))) (dK : kR K = rmC (20 + 3 * rf + 2) c1 s1) (hQ : KQx K T (xoR r) c1 s1 g9 d9) (x0 : Nat) (x1 : Int32) (g : CG) (d : CD) (c0 s0 k m9 : Nat) (hc : c1 = c0 + k) (hs : s1 = s0 + m9) (hf : f_X9_any ts n rs x0 x1 g d = some (r, g9, d9, k, m9)) : XJ K 3 (Wc K T c0 s0 g d) 0 [(0, .ref x0), (1, .int x1)] [] := by
  unfold f_X9_any at hf
  refine x_aload_n C dX9_any_0 0 rfl ?_
  refine x_iload_n C dX9_any_1 1 rfl ?_
  obtain ⟨t1, hf⟩ := pf_ch hf
  obtain ⟨r2, er2, hf⟩ := pf_b hf
  obtain ⟨j3, i4, ej3, ei4, hf⟩ := pf_tk hf
  refine k_X9_both_X9 hts hrs C B t1 dK (by omega) (by omega) er2 (Nat.le_of_ble_eq_true rfl) dX9_any_2 (fun q eq => ?_) (fun r5 er5 => ?_)
  · obtain ⟨rfl, rfl, rfl, rfl, rfl⟩ := pf_xr eq hf
    exact c_csT (by omega) (by omega) (c_out C hQ)
  have hf := pf_xl er5 hf
  refine x_astore_n (L' := [(0, .ref x0), (1, .int x1), (2, .ref r5)]) C dX9_any_5 (Nat.le_of_ble_eq_true rfl) [1, 2, 0] rfl ?_
  exact w_X9_any_6 ts n rs hts hrs C B hrt dK hQ n x0 x1 r5 _ _ _ _ _ _ (by omega) (by omega) hf
theorem met_X9_any {T : CT} {v : (XR Nat)} {n : Nat} {g : CG} {d : CD} {x0 : Nat} {x1 : Int32} {rs : Nat → Int32 → CG → CD → Option (XR Nat)} {rf : Nat} {l : Launch} (hrs : RS9 l T rf rs) (hf : f_X9_any (tS T) n rs x0 x1 g d = some v) : vy_Met l yX9_any (ws_ yX9_any cX9_any 3 (some (.object "StatueRent$Cond"))) (rmC (20 + 3 * rf + 2) v.2.2.2.1 v.2.2.2.2) (va_Pc [.ref x0, .int x1] (CU T g d)) (Qx T (xoR v.1) v.2.1 v.2.2.1) (Xx T (xoR v.1) v.2.1 v.2.2.1) v.2.2.2.1 v.2.2.2.2 (cA T) :=
  cx_met [.ref x0, .int x1] RX9 (by decide) rfl (Nat.le_of_ble_eq_true rfl) (fun K hl hR hrt C B hQ => by subst hl; exact w_X9_any_E (tS T) n rs rfl hrs C B hrt hR hQ _ _ _ _ 0 0 _ _ (Nat.zero_add _).symm (Nat.zero_add _).symm hf)
theorem k_X6_must_X9 {K : KT} {T : CT} {c0 s0 c1 s1 dk : Nat} {cc : ByteArray} {nL pc : Nat} {L : List (Nat × Value)} {rest : List Value} {g : CG} {d : CD} {v : (XR Unit)} {x0 : Nat} {x1 : Int32} {x2 : Int32} (C : Kok K cc nL RX9) (B : CB K T) (hta : ht g x0 = 8) (dK : kR K = rmC dk c1 s1) (hd : 3 + 1 ≤ dk) (hcs : c0 + v.2.2.2.1 ≤ c1 ∧ s0 + v.2.2.2.2 ≤ s1) (hf : f_X6_must x0 x1 x2 g d = some v) (hW : (rest.map fun v => v.category).sum ≤ 8) (dd : decode cc pc = .ok (.invokevirtual 57, 3)) (kx : ∀ q, v.1 = .inr q → XT K nL (Wc K T (c0 + v.2.2.2.1) (s0 + v.2.2.2.2) v.2.1 v.2.2.1) pc L rest q) (kk2 : ∀ r, v.1 = .inl r → XJ K nL (Wc K T (c0 + v.2.2.2.1) (s0 + v.2.2.2.2) v.2.1 v.2.2.1) (pc + 3) L (rest)) : XJ K nL (Wc K T c0 s0 g d) pc L (.int x2 :: .int x1 :: .ref x0 :: rest) := by
  have kk3 : ∀ w, xoV v.1 = .inl w → XJ K nL (Wc K T (c0 + v.2.2.2.1) (s0 + v.2.2.2.2) v.2.1 v.2.2.1) (pc + 3) L (w.toList ++ rest) := fun w h => by
    obtain ⟨r, e1, rfl⟩ := xoV_l h
    exact kk2 r e1
  have kx3 : ∀ q, xoV v.1 = .inr q → XT K nL (Wc K T (c0 + v.2.2.2.1) (s0 + v.2.2.2.2) v.2.1 v.2.2.1) pc L rest q := fun q h => kx q (xoV_r h)
  have e := hta
  · exact cx_callU (rest := rest) (o := xoV v.1) (x := ⟨"StatueRent$SentenceReader", "must", "(ZI)V"⟩) (owner := "StatueRent$Reader") [.int x1, .int x2] 2 rfl C B e (by decide) (by decide) rfl dK hd (Nat.le_of_ble_eq_true rfl) hcs q865 q1549 q1550 (C.2.2.2.2.1 _ q1551) q864 q128 rfl (by decide +kernel) (met_X6_must hf) rfl hW dd kx3 kk3
theorem k_X19_init_X9 {K : KT} {T : CT} {c0 s0 c1 s1 dk : Nat} {cc : ByteArray} {nL pc : Nat} {L : List (Nat × Value)} {rest : List Value} {g : CG} {d : CD} {v : (SR Unit)} {x0 : Nat} {x1 : Int32} {x2 : Int32} {x3 : Int32} (C : Kok K cc nL RX9) (B : CB K T) (dK : kR K = rmC dk c1 s1) (hd : 3 + 1 ≤ dk) (hcs : c0 + v.2.2.2.1 ≤ c1 ∧ s0 + v.2.2.2.2 ≤ s1) (hf : f_X19_init x0 x1 x2 x3 g d = some v) (hW : (rest.map fun v => v.category).sum ≤ 8) (dd : decode cc pc = .ok (.invokespecial 137, 3)) (kk2 : XJ K nL (Wc K T (c0 + v.2.2.2.1) (s0 + v.2.2.2.2) v.2.1 v.2.2.1) (pc + 3) L (rest)) : XJ K nL (Wc K T c0 s0 g d) pc L (.int x3 :: .int x2 :: .int x1 :: .ref x0 :: rest) := by
  exact c_callI (rest := rest) (v := none) [.int x1, .int x2, .int x3] 3 rfl C B dK hd (Nat.le_of_ble_eq_true rfl) hcs q1588 q1586 q1587 q152 rfl (by decide +kernel) (met_X19_init hf) rfl hW dd kk2
theorem k_X6_is_2_X9 {K : KT} {T : CT} {c0 s0 c1 s1 dk : Nat} {cc : ByteArray} {nL pc : Nat} {L : List (Nat × Value)} {rest : List Value} {g : CG} {d : CD} {v : Int32} {x0 : Nat} {x1 : Int32} (C : Kok K cc nL RX9) (B : CB K T) (hta : ht g x0 = 8) (dK : kR K = rmC dk c1 s1) (hd : 2 + 1 ≤ dk) (hcs : c0 + 0 ≤ c1 ∧ s0 + 0 ≤ s1) (hf : f_X6_is_2 g d x0 x1 = some v) (hW : (rest.map fun v => v.category).sum ≤ 8) (dd : decode cc pc = .ok (.invokevirtual 88, 3)) (kk2 : XJ K nL (Wc K T c0 s0 g d) (pc + 3) L ((.int v) :: rest)) : XJ K nL (Wc K T c0 s0 g d) pc L (.int x1 :: .ref x0 :: rest) := by
  have e := hta
  · exact c_callU (rest := rest) (v := (some (.int v))) (x := ⟨"StatueRent$SentenceReader", "is", "(I)Z"⟩) (owner := "StatueRent$Reader") [.int x1] 1 rfl C B e (by decide) (by decide) rfl dK hd (Nat.le_of_ble_eq_true rfl) hcs q951 q1542 q1543 (C.2.2.2.2.1 _ q1545) q946 q128 rfl (by decide +kernel) (met_X6_is_2 hf) rfl hW dd kk2
theorem k_X6_known_X9 {K : KT} {T : CT} {c0 s0 c1 s1 dk : Nat} {cc : ByteArray} {nL pc : Nat} {L : List (Nat × Value)} {rest : List Value} {g : CG} {d : CD} {v : (XR Int32)} {n : Nat} {x0 : Nat} {x1 : Nat} {x2 : Int32} (C : Kok K cc nL RX9) (B : CB K T) (hta : ht g x0 = 8) (dK : kR K = rmC dk c1 s1) (hd : 10 + 1 ≤ dk) (hcs : c0 + v.2.2.2.1 ≤ c1 ∧ s0 + v.2.2.2.2 ≤ s1) (hf : f_X6_known n x0 x1 x2 g d = some v) (hW : (rest.map fun v => v.category).sum ≤ 8) (dd : decode cc pc = .ok (.invokevirtual 119, 3)) (kx : ∀ q, v.1 = .inr q → XT K nL (Wc K T (c0 + v.2.2.2.1) (s0 + v.2.2.2.2) v.2.1 v.2.2.1) pc L rest q) (kk2 : ∀ r, v.1 = .inl r → XJ K nL (Wc K T (c0 + v.2.2.2.1) (s0 + v.2.2.2.2) v.2.1 v.2.2.1) (pc + 3) L ((.int r) :: rest)) : XJ K nL (Wc K T c0 s0 g d) pc L (.int x2 :: .ref x1 :: .ref x0 :: rest) := by
  have kk3 : ∀ w, xoI v.1 = .inl w → XJ K nL (Wc K T (c0 + v.2.2.2.1) (s0 + v.2.2.2.2) v.2.1 v.2.2.1) (pc + 3) L (w.toList ++ rest) := fun w h => by
    obtain ⟨r, e1, rfl⟩ := xoI_l h
    exact kk2 r e1
  have kx3 : ∀ q, xoI v.1 = .inr q → XT K nL (Wc K T (c0 + v.2.2.2.1) (s0 + v.2.2.2.2) v.2.1 v.2.2.1) pc L rest q := fun q h => kx q (xoI_r h)
  have e := hta
  · exact cx_callU (rest := rest) (o := xoI v.1) (x := ⟨"StatueRent$SentenceReader", "known", "([JI)I"⟩) (owner := "StatueRent$Reader") [.ref x1, .int x2] 2 rfl C B e (by decide) (by decide) rfl dK hd (Nat.le_of_ble_eq_true rfl) hcs q914 q1570 q1571 (C.2.2.2.2.1 _ q1572) q913 q128 rfl (by decide +kernel) (met_X6_known hf) rfl hW dd kx3 kk3
theorem k_X18_init_X9 {K : KT} {T : CT} {c0 s0 c1 s1 dk : Nat} {cc : ByteArray} {nL pc : Nat} {L : List (Nat × Value)} {rest : List Value} {g : CG} {d : CD} {v : (SR Unit)} {x0 : Nat} {x1 : Int32} {x2 : Int32} (C : Kok K cc nL RX9) (B : CB K T) (dK : kR K = rmC dk c1 s1) (hd : 3 + 1 ≤ dk) (hcs : c0 + v.2.2.2.1 ≤ c1 ∧ s0 + v.2.2.2.2 ≤ s1) (hf : f_X18_init x0 x1 x2 g d = some v) (hW : (rest.map fun v => v.category).sum ≤ 8) (dd : decode cc pc = .ok (.invokespecial 129, 3)) (kk2 : XJ K nL (Wc K T (c0 + v.2.2.2.1) (s0 + v.2.2.2.2) v.2.1 v.2.2.1) (pc + 3) L (rest)) : XJ K nL (Wc K T c0 s0 g d) pc L (.int x2 :: .int x1 :: .ref x0 :: rest) := by
  exact c_callI (rest := rest) (v := none) [.int x1, .int x2] 2 rfl C B dK hd (Nat.le_of_ble_eq_true rfl) hcs q1575 q1573 q1574 q151 rfl (by decide +kernel) (met_X18_init hf) rfl hW dd kk2
theorem k_X9_any_X9 {K : KT} {T : CT} {c0 s0 c1 s1 dk : Nat} {cc : ByteArray} {nL pc : Nat} {L : List (Nat × Value)} {rest : List Value} {g : CG} {d : CD} {v : (XR Nat)} {ts : Nat → Nat} {n : Nat} {x0 : Nat} {x1 : Int32} (hts : tS T = ts) {rs : Nat → Int32 → CG → CD → Option (XR Nat)} {rf : Nat} (hrs : RS9 (kL K) T rf rs) (C : Kok K cc nL RX9) (B : CB K T) (hta : ht g x0 = 8) (dK : kR K = rmC dk c1 s1) (hd : (20 + 3 * rf + 2) + 1 ≤ dk) (hcs : c0 + v.2.2.2.1 ≤ c1 ∧ s0 + v.2.2.2.2 ≤ s1) (hf : f_X9_any ts n rs x0 x1 g d = some v) (hW : (rest.map fun v => v.category).sum ≤ 8) (dd : decode cc pc = .ok (.invokevirtual 50, 3)) (kx : ∀ q, v.1 = .inr q → XT K nL (Wc K T (c0 + v.2.2.2.1) (s0 + v.2.2.2.2) v.2.1 v.2.2.1) pc L rest q) (kk2 : ∀ r, v.1 = .inl r → XJ K nL (Wc K T (c0 + v.2.2.2.1) (s0 + v.2.2.2.2) v.2.1 v.2.2.1) (pc + 3) L ((.ref r) :: rest)) : XJ K nL (Wc K T c0 s0 g d) pc L (.int x1 :: .ref x0 :: rest) := by
  subst hts
  have kk3 : ∀ w, xoR v.1 = .inl w → XJ K nL (Wc K T (c0 + v.2.2.2.1) (s0 + v.2.2.2.2) v.2.1 v.2.2.1) (pc + 3) L (w.toList ++ rest) := fun w h => by
    obtain ⟨r, e1, rfl⟩ := xoR_l h
    exact kk2 r e1
  have kx3 : ∀ q, xoR v.1 = .inr q → XT K nL (Wc K T (c0 + v.2.2.2.1) (s0 + v.2.2.2.2) v.2.1 v.2.2.1) pc L rest q := fun q h => kx q (xoR_r h)
  exact cx_callV (rest := rest) (o := xoR v.1) [.int x1] 1 rfl C B hta (by decide) (by decide) rfl dK hd (Nat.le_of_ble_eq_true rfl) hcs (lw_V q1526 q1528 qs36 q132 q1529) (by decide +kernel) (met_X9_any hrs hf) rfl hW dd kx3 kk3
theorem k_X6_sign_X9 {K : KT} {T : CT} {c0 s0 c1 s1 dk : Nat} {cc : ByteArray} {nL pc : Nat} {L : List (Nat × Value)} {rest : List Value} {g : CG} {d : CD} {v : (XR Unit)} {n : Nat} {x0 : Nat} {x1 : Int32} (C : Kok K cc nL RX9) (B : CB K T) (hta : ht g x0 = 8) (dK : kR K = rmC dk c1 s1) (hd : 6 + 1 ≤ dk) (hcs : c0 + v.2.2.2.1 ≤ c1 ∧ s0 + v.2.2.2.2 ≤ s1) (hf : f_X6_sign n x0 x1 g d = some v) (hW : (rest.map fun v => v.category).sum ≤ 8) (dd : decode cc pc = .ok (.invokevirtual 100, 3)) (kx : ∀ q, v.1 = .inr q → XT K nL (Wc K T (c0 + v.2.2.2.1) (s0 + v.2.2.2.2) v.2.1 v.2.2.1) pc L rest q) (kk2 : ∀ r, v.1 = .inl r → XJ K nL (Wc K T (c0 + v.2.2.2.1) (s0 + v.2.2.2.2) v.2.1 v.2.2.1) (pc + 3) L (rest)) : XJ K nL (Wc K T c0 s0 g d) pc L (.int x1 :: .ref x0 :: rest) := by
  have kk3 : ∀ w, xoV v.1 = .inl w → XJ K nL (Wc K T (c0 + v.2.2.2.1) (s0 + v.2.2.2.2) v.2.1 v.2.2.1) (pc + 3) L (w.toList ++ rest) := fun w h => by
    obtain ⟨r, e1, rfl⟩ := xoV_l h
    exact kk2 r e1
  have kx3 : ∀ q, xoV v.1 = .inr q → XT K nL (Wc K T (c0 + v.2.2.2.1) (s0 + v.2.2.2.2) v.2.1 v.2.2.1) pc L rest q := fun q h => kx q (xoV_r h)
  have e := hta
  · exact cx_callU (rest := rest) (o := xoV v.1) (x := ⟨"StatueRent$SentenceReader", "sign", "(I)V"⟩) (owner := "StatueRent$Reader") [.int x1] 1 rfl C B e (by decide) (by decide) rfl dK hd (Nat.le_of_ble_eq_true rfl) hcs q944 q1565 q1566 (C.2.2.2.2.1 _ q1567) q943 q128 rfl (by decide +kernel) (met_X6_sign hf) rfl hW dd kx3 kk3
theorem k_X17_init_X9 {K : KT} {T : CT} {c0 s0 c1 s1 dk : Nat} {cc : ByteArray} {nL pc : Nat} {L : List (Nat × Value)} {rest : List Value} {g : CG} {d : CD} {v : (SR Unit)} {x0 : Nat} {x1 : Nat} (C : Kok K cc nL RX9) (B : CB K T) (dK : kR K = rmC dk c1 s1) (hd : 3 + 1 ≤ dk) (hcs : c0 + v.2.2.2.1 ≤ c1 ∧ s0 + v.2.2.2.2 ≤ s1) (hf : f_X17_init x0 x1 g d = some v) (hW : (rest.map fun v => v.category).sum ≤ 8) (dd : decode cc pc = .ok (.invokespecial 97, 3)) (kk2 : XJ K nL (Wc K T (c0 + v.2.2.2.1) (s0 + v.2.2.2.2) v.2.1 v.2.2.1) (pc + 3) L (rest)) : XJ K nL (Wc K T c0 s0 g d) pc L (.ref x1 :: .ref x0 :: rest) := by
  exact c_callI (rest := rest) (v := none) [.ref x1] 1 rfl C B dK hd (Nat.le_of_ble_eq_true rfl) hcs q1559 q1557 q1558 q150 rfl (by decide +kernel) (met_X17_init hf) rfl hW dd kk2
theorem k_X6_find_X9 {K : KT} {T : CT} {c0 s0 c1 s1 dk : Nat} {cc : ByteArray} {nL pc : Nat} {L : List (Nat × Value)} {rest : List Value} {g : CG} {d : CD} {v : Int32} {n : Nat} {x0 : Nat} {x1 : Nat} (C : Kok K cc nL RX9) (B : CB K T) (hta : ht g x0 = 8) (dK : kR K = rmC dk c1 s1) (hd : 7 + 1 ≤ dk) (hcs : c0 + 0 ≤ c1 ∧ s0 + 0 ≤ s1) (hf : f_X6_find n g d x0 x1 = some v) (hW : (rest.map fun v => v.category).sum ≤ 8) (dd : decode cc pc = .ok (.invokevirtual 91, 3)) (kk2 : XJ K nL (Wc K T c0 s0 g d) (pc + 3) L ((.int v) :: rest)) : XJ K nL (Wc K T c0 s0 g d) pc L (.ref x1 :: .ref x0 :: rest) := by
  have e := hta
  · exact c_callU (rest := rest) (v := (some (.int v))) (x := ⟨"StatueRent$SentenceReader", "find", "([Ljava/lang/String;)I"⟩) (owner := "StatueRent$Reader") [.ref x1] 1 rfl C B e (by decide) (by decide) rfl dK hd (Nat.le_of_ble_eq_true rfl) hcs q804 q1546 q1547 (C.2.2.2.2.1 _ q1548) q803 q128 rfl (by decide +kernel) (met_X6_find hf) rfl hW dd kk2
def f_X9_single_L288 (ts : Nat → Nat) (n : Nat) (rs : Nat → Int32 → CG → CD → Option (XR Nat)) (x0 : Nat) (x5 : Int32) (x6 : Int32) (y0 : Nat) (y1 : Int32) (g : CG) (d : CD) : Option (XR Nat) := if ht g y0 = 8 then (f_X6_must y0 y1 (1 : Int32) g d).bind fun r2 => tick r2.2.2.2.1 r2.2.2.2.2 (xcase r2 fun r5 => if ht r2.2.1 x0 = 8 then ev (hi r2.2.2.1 x0 4) fun v7 => (f_X6_next n r2.2.1 x0 r2.2.2.1).bind fun r8 => tick 1 3 (ev (hz r2.2.1) fun q9 => ev (nd r8 q9) fun da11 => ev (na r2.2.1 16 0) fun ga10 => (f_X19_init q9 x5 x6 v7 ga10 da11).bind fun r14 => tick r14.2.2.2.1 r14.2.2.2.2 (some (.inl q9, r14.2.1, r14.2.2.1, 0, 0))) else none) else none
set_option maxHeartbeats 4000000 in
theorem w_X9_single_288 {K : KT} {T : CT} {r : (Nat ⊕ Nat)} {g9 : CG} {d9 : CD} {c1 s1 : Nat} (ts : Nat → Nat) (n : Nat) (rs : Nat → Int32 → CG → CD → Option (XR Nat)) (hts : tS T = ts) {rf : Nat} (hrs : RS9 (kL K) T rf rs) (C : Kok K cX9_single 8 RX9) (B : CB K T) (hrt : (kMe K).sig.returnType = (some (.object "StatueRent$Cond"))) (dK : kR K = rmC (20 + 3 * rf + 3) c1 s1) (hQ : KQx K T (xoR r) c1 s1 g9 d9) (x0 : Nat) (x5 : Int32) (x6 : Int32) (y0 : Nat) (y1 : Int32) (g : CG) (d : CD) (c0 s0 k m9 : Nat) (hc : c1 = c0 + k) (hs : s1 = s0 + m9) (hf : f_X9_single_L288 ts n rs x0 x5 x6 y0 y1 g d = some (r, g9, d9, k, m9)) : XJ K 8 (Wc K T c0 s0 g d) 288 [(0, .ref x0), (5, .int x5), (6, .int x6)] [.int y1, .ref y0] := by
  unfold f_X9_single_L288 at hf
  refine x_iconst (1 : Int32) C dX9_single_288 (by decide) ?_
  obtain ⟨t1, hf⟩ := pf_ch hf
  obtain ⟨r2, er2, hf⟩ := pf_b hf
  obtain ⟨j3, i4, ej3, ei4, hf⟩ := pf_tk hf
  refine k_X6_must_X9 C B t1 dK (by omega) (by omega) er2 (Nat.le_of_ble_eq_true rfl) dX9_single_289 (fun q eq => ?_) (fun r5 er5 => ?_)
  · obtain ⟨rfl, rfl, rfl, rfl, rfl⟩ := pf_xr eq hf
    exact c_csT (by omega) (by omega) (c_out C hQ)
  have hf := pf_xl er5 hf
  refine x_aload_n C dX9_single_292 0 rfl ?_
  obtain ⟨t6, hf⟩ := pf_ch hf
  refine cg8_4 C B t6 (flo C q501) (fsq C q502) dX9_single_293 ?_
  obtain ⟨v7, ev7, hf⟩ := pf_e hf
  refine x_topir ev7 ?_
  refine x_istore (L' := [(0, .ref x0), (5, .int x5), (6, .int x6), (7, .int v7)]) C dX9_single_296 (Nat.le_of_ble_eq_true rfl) [1, 2, 3, 0] rfl ?_
  refine x_aload_n C dX9_single_298 0 rfl ?_
  obtain ⟨r8, er8, hf⟩ := pf_b hf
  refine k_X6_next_X9 C B t6 dK (by omega) (by omega) er8 (Nat.le_of_ble_eq_true rfl) dX9_single_299 ?_
  obtain ⟨j12, i13, ej12, ei13, hf⟩ := pf_tk hf
  refine c_new16 C B q1584 dK (by omega) dX9_single_302 ?_
  obtain ⟨q9, eq9, hf⟩ := pf_e hf
  refine x_toprr eq9 ?_
  obtain ⟨da11, eda11, hf⟩ := pf_e hf
  obtain ⟨ga10, ega10, hf⟩ := pf_e hf
  rw [← eq9, ← eda11, ← ega10]
  refine x_dup C dX9_single_305 rfl ?_
  refine x_iload C dX9_single_306 1 rfl ?_
  refine x_iload C dX9_single_308 2 rfl ?_
  refine x_iload C dX9_single_310 3 rfl ?_
  obtain ⟨r14, er14, hf⟩ := pf_b hf
  obtain ⟨j15, i16, ej15, ei16, hf⟩ := pf_tk hf
  refine k_X19_init_X9 C B dK (by omega) (by omega) er14 (Nat.le_of_ble_eq_true rfl) dX9_single_312 ?_
  obtain ⟨rfl, rfl, rfl, rfl, rfl⟩ := sr_inj hf
  refine c_cs (c0 := c1) (s0 := s1) (by omega) (by omega) ?_
  exact x_ret hQ (c_aret (K := kW K _) C hrt (Or.inl ⟨_, rfl⟩) rfl dX9_single_315)
def f_X9_single_L260 (ts : Nat → Nat) (n : Nat) (rs : Nat → Int32 → CG → CD → Option (XR Nat)) (x0 : Nat) (x5 : Int32) (y0 : Nat) (y1 : Int32) (g : CG) (d : CD) : Option (XR Nat) := if ht g y0 = 8 then (f_X6_must y0 y1 (1 : Int32) g d).bind fun r2 => tick r2.2.2.2.1 r2.2.2.2.2 (xcase r2 fun r5 => if ht r2.2.1 x0 = 8 then ev (hi r2.2.2.1 x0 4) fun v7 => (f_X6_next n r2.2.1 x0 r2.2.2.1).bind fun r8 => if (hi r8 x0 3) = (2 : Int32) then (f_X9_single_L288 ts n rs x0 x5 v7 x0 (1 : Int32) r2.2.1 r8) else (f_X9_single_L288 ts n rs x0 x5 v7 x0 (0 : Int32) r2.2.1 r8) else none) else none
set_option maxHeartbeats 4000000 in
theorem w_X9_single_260 {K : KT} {T : CT} {r : (Nat ⊕ Nat)} {g9 : CG} {d9 : CD} {c1 s1 : Nat} (ts : Nat → Nat) (n : Nat) (rs : Nat → Int32 → CG → CD → Option (XR Nat)) (hts : tS T = ts) {rf : Nat} (hrs : RS9 (kL K) T rf rs) (C : Kok K cX9_single 8 RX9) (B : CB K T) (hrt : (kMe K).sig.returnType = (some (.object "StatueRent$Cond"))) (dK : kR K = rmC (20 + 3 * rf + 3) c1 s1) (hQ : KQx K T (xoR r) c1 s1 g9 d9) (x0 : Nat) (x5 : Int32) (y0 : Nat) (y1 : Int32) (g : CG) (d : CD) (c0 s0 k m9 : Nat) (hc : c1 = c0 + k) (hs : s1 = s0 + m9) (hf : f_X9_single_L260 ts n rs x0 x5 y0 y1 g d = some (r, g9, d9, k, m9)) : XJ K 8 (Wc K T c0 s0 g d) 260 [(0, .ref x0), (5, .int x5)] [.int y1, .ref y0] := by
  unfold f_X9_single_L260 at hf
  refine x_iconst (1 : Int32) C dX9_single_260 (by decide) ?_
  obtain ⟨t1, hf⟩ := pf_ch hf
  obtain ⟨r2, er2, hf⟩ := pf_b hf
  obtain ⟨j3, i4, ej3, ei4, hf⟩ := pf_tk hf
  refine k_X6_must_X9 C B t1 dK (by omega) (by omega) er2 (Nat.le_of_ble_eq_true rfl) dX9_single_261 (fun q eq => ?_) (fun r5 er5 => ?_)
  · obtain ⟨rfl, rfl, rfl, rfl, rfl⟩ := pf_xr eq hf
    exact c_csT (by omega) (by omega) (c_out C hQ)
  have hf := pf_xl er5 hf
  refine x_aload_n C dX9_single_264 0 rfl ?_
  obtain ⟨t6, hf⟩ := pf_ch hf
  refine cg8_4 C B t6 (flo C q501) (fsq C q502) dX9_single_265 ?_
  obtain ⟨v7, ev7, hf⟩ := pf_e hf
  refine x_topir ev7 ?_
  refine x_istore (L' := [(0, .ref x0), (5, .int x5), (6, .int v7)]) C dX9_single_268 (Nat.le_of_ble_eq_true rfl) [1, 2, 0] rfl ?_
  refine x_aload_n C dX9_single_270 0 rfl ?_
  obtain ⟨r8, er8, hf⟩ := pf_b hf
  refine k_X6_next_X9 C B t6 dK (by omega) (by omega) er8 (Nat.le_of_ble_eq_true rfl) dX9_single_271 ?_
  refine x_aload_n C dX9_single_274 0 rfl ?_
  refine x_aload_n C dX9_single_275 0 rfl ?_
  refine cg8_3 C B t6 (flo C q498) (fsq C q499) dX9_single_276 ?_
  refine x_iconst (2 : Int32) C dX9_single_279 (by decide) ?_
  refine x_icmp_ne (tgt := 287) C dX9_single_280 (by decide) (fun w9 => ?_) (fun w9 => ?_)
  · have hf := pf_f w9 hf
    refine x_iconst (0 : Int32) C dX9_single_287 (by decide) ?_
    exact w_X9_single_288 ts n rs hts hrs C B hrt dK hQ x0 x5 v7 x0 (0 : Int32) _ _ _ _ _ _ (by omega) (by omega) hf
  · have hf := pf_t w9 hf
    refine x_iconst (1 : Int32) C dX9_single_283 (by decide) ?_
    refine x_goto (tgt := 288) C dX9_single_284 (by decide) ?_
    exact w_X9_single_288 ts n rs hts hrs C B hrt dK hQ x0 x5 v7 x0 (1 : Int32) _ _ _ _ _ _ (by omega) (by omega) hf
def f_X9_single_L85 (ts : Nat → Nat) (n : Nat) (rs : Nat → Int32 → CG → CD → Option (XR Nat)) (x0 : Nat) (x1 : Int32) (x2 : Int32) (x3 : Int32) (x4 : Int32) (x5 : Int32) (y0 : Nat) (y1 : Int32) (g : CG) (d : CD) : Option (XR Nat) := if ht g y0 = 8 then (f_X6_must y0 y1 (4 : Int32) g d).bind fun r2 => tick r2.2.2.2.1 r2.2.2.2.2 (xcase r2 fun r5 => if ht r2.2.1 x0 = 8 then ev (wi r2.2.2.1 x0 10 ((hi r2.2.2.1 x0 10) + (1 : Int32))) fun da7 => (f_X6_next n r2.2.1 x0 da7).bind fun r8 => if x2 = 0 then (if x3 = 0 then (if x4 = (-1 : Int32) then ((f_X6_is_2 r2.2.1 r8 x0 (60 : Int32)).bind fun r12 => if r12 = 0 then ((f_X6_is_2 r2.2.1 r8 x0 (61 : Int32)).bind fun r14 => if r14 = 0 then ((f_X6_is_2 r2.2.1 r8 x0 (62 : Int32)).bind fun r16 => if r16 = 0 then (f_X9_single_L260 ts n rs x0 x5 x0 (0 : Int32) r2.2.1 r8) else (f_X9_single_L260 ts n rs x0 x5 x0 (1 : Int32) r2.2.1 r8)) else (f_X9_single_L260 ts n rs x0 x5 x0 (1 : Int32) r2.2.1 r8)) else (f_X9_single_L260 ts n rs x0 x5 x0 (1 : Int32) r2.2.1 r8)) else (tick 1 2 (ev (hz r2.2.1) fun q18 => ev (nd r8 q18) fun da20 => ev (na r2.2.1 15 0) fun ga19 => if (3 : Int32) ≤ x4 then (if x4 = (3 : Int32) then (if ht ga19 x0 = 8 then (hr ga19 x0 11).bind fun p39 => if ht ga19 p39 = 1 then (hr ga19 p39 6).bind fun p41 => if ht ga19 p41 = 3 then (hr ga19 p41 1).bind fun p43 => (f_X6_known n x0 p43 (hi da20 p41 19) ga19 da20).bind fun r44 => tick r44.2.2.2.1 r44.2.2.2.2 (xcase r44 fun r47 => (f_X18_init q18 x4 r47 r44.2.1 r44.2.2.1).bind fun r48 => tick r48.2.2.2.1 r48.2.2.2.2 (some (.inl q18, r48.2.1, r48.2.2.1, 0, 0))) else none else none else none) else (if ht ga19 x0 = 8 then (hr ga19 x0 11).bind fun p26 => if ht ga19 p26 = 1 then (hr ga19 p26 6).bind fun p28 => if ht ga19 p28 = 3 then (hr ga19 p28 0).bind fun p30 => (f_X6_known n x0 p30 (hi da20 p28 17) ga19 da20).bind fun r31 => tick r31.2.2.2.1 r31.2.2.2.2 (xcase r31 fun r34 => (f_X18_init q18 x4 r34 r31.2.1 r31.2.2.1).bind fun r35 => tick r35.2.2.2.1 r35.2.2.2.2 (some (.inl q18, r35.2.1, r35.2.2.1, 0, 0))) else none else none else none)) else ((f_X18_init q18 x4 (-1 : Int32) ga19 da20).bind fun r51 => tick r51.2.2.2.1 r51.2.2.2.2 (some (.inl q18, r51.2.1, r51.2.2.1, 0, 0)))))) else ((f_X9_any ts n rs x0 (x1 + (1 : Int32)) r2.2.1 r8).bind fun r54 => tick r54.2.2.2.1 r54.2.2.2.2 (xcase r54 fun r57 => if ht r54.2.1 x0 = 8 then (f_X6_sign n x0 (41 : Int32) r54.2.1 r54.2.2.1).bind fun r59 => tick r59.2.2.2.1 r59.2.2.2.2 (xcase r59 fun r62 => some (.inl r57, r59.2.1, r59.2.2.1, 0, 0)) else none))) else (tick 1 1 (ev (hz r2.2.1) fun q63 => ev (nd r8 q63) fun da65 => ev (na r2.2.1 14 0) fun ga64 => if ht ga64 x0 = 8 then (rs x0 (x1 + (1 : Int32)) ga64 da65).bind fun r69 => tick r69.2.2.2.1 r69.2.2.2.2 (xcase r69 fun r72 => (f_X17_init q63 r72 r69.2.1 r69.2.2.1).bind fun r73 => tick r73.2.2.2.1 r73.2.2.2.2 (some (.inl q63, r73.2.1, r73.2.2.1, 0, 0))) else none)) else none) else none
set_option maxHeartbeats 4000000 in
theorem w_X9_single_85 {K : KT} {T : CT} {r : (Nat ⊕ Nat)} {g9 : CG} {d9 : CD} {c1 s1 : Nat} (ts : Nat → Nat) (n : Nat) (rs : Nat → Int32 → CG → CD → Option (XR Nat)) (hts : tS T = ts) {rf : Nat} (hrs : RS9 (kL K) T rf rs) (C : Kok K cX9_single 8 RX9) (B : CB K T) (hrt : (kMe K).sig.returnType = (some (.object "StatueRent$Cond"))) (dK : kR K = rmC (20 + 3 * rf + 3) c1 s1) (hQ : KQx K T (xoR r) c1 s1 g9 d9) (x0 : Nat) (x1 : Int32) (x2 : Int32) (x3 : Int32) (x4 : Int32) (x5 : Int32) (y0 : Nat) (y1 : Int32) (g : CG) (d : CD) (c0 s0 k m9 : Nat) (hc : c1 = c0 + k) (hs : s1 = s0 + m9) (hf : f_X9_single_L85 ts n rs x0 x1 x2 x3 x4 x5 y0 y1 g d = some (r, g9, d9, k, m9)) : XJ K 8 (Wc K T c0 s0 g d) 85 [(0, .ref x0), (1, .int x1), (2, .int x2), (3, .int x3), (4, .int x4), (5, .int x5)] [.int y1, .ref y0] := by
  unfold f_X9_single_L85 at hf
  refine x_iconst (4 : Int32) C dX9_single_85 (by decide) ?_
  obtain ⟨t1, hf⟩ := pf_ch hf
  obtain ⟨r2, er2, hf⟩ := pf_b hf
  obtain ⟨j3, i4, ej3, ei4, hf⟩ := pf_tk hf
  refine k_X6_must_X9 C B t1 dK (by omega) (by omega) er2 (Nat.le_of_ble_eq_true rfl) dX9_single_86 (fun q eq => ?_) (fun r5 er5 => ?_)
  · obtain ⟨rfl, rfl, rfl, rfl, rfl⟩ := pf_xr eq hf
    exact c_csT (by omega) (by omega) (c_out C hQ)
  have hf := pf_xl er5 hf
  refine x_aload_n C dX9_single_89 0 rfl ?_
  refine x_dup C dX9_single_90 rfl ?_
  obtain ⟨t6, hf⟩ := pf_ch hf
  refine cg8_10 C B t6 (flo C q587) fsm dX9_single_91 ?_
  refine x_iconst (1 : Int32) C dX9_single_94 (by decide) ?_
  refine x_iadd C dX9_single_95 ?_
  refine cp8_10 C B t6 (flo C q587) fsm dX9_single_96 ?_
  obtain ⟨da7, eda7, hf⟩ := pf_e hf
  refine c_ren eda7 ?_
  refine x_aload_n C dX9_single_99 0 rfl ?_
  obtain ⟨r8, er8, hf⟩ := pf_b hf
  refine k_X6_next_X9 C B t6 dK (by omega) (by omega) er8 (Nat.le_of_ble_eq_true rfl) dX9_single_100 ?_
  refine x_iload_n C dX9_single_103 2 rfl ?_
  refine x_if_eq (tgt := 122) C dX9_single_104 (by decide) (fun w9 => ?_) (fun w9 => ?_)
  · have hf := pf_t w9 hf
    refine x_iload_n C dX9_single_122 3 rfl ?_
    refine x_if_eq (tgt := 144) C dX9_single_123 (by decide) (fun w10 => ?_) (fun w10 => ?_)
    · have hf := pf_t w10 hf
      refine x_iload C dX9_single_144 4 rfl ?_
      refine x_iconst (-1 : Int32) C dX9_single_146 (by decide) ?_
      refine x_icmp_eq (tgt := 227) C dX9_single_147 (by decide) (fun w11 => ?_) (fun w11 => ?_)
      · have hf := pf_t w11 hf
        refine x_aload_n C dX9_single_227 0 rfl ?_
        refine x_aload_n C dX9_single_228 0 rfl ?_
        refine x_bipush (60 : Int32) C dX9_single_229 (by decide) ?_
        obtain ⟨r12, er12, hf⟩ := pf_b hf
        refine k_X6_is_2_X9 C B t6 dK (by omega) (by omega) er12 (Nat.le_of_ble_eq_true rfl) dX9_single_231 ?_
        refine x_if_ne (tgt := 255) C dX9_single_234 (by decide) (fun w13 => ?_) (fun w13 => ?_)
        · have hf := pf_f w13 hf
          refine x_iconst (1 : Int32) C dX9_single_255 (by decide) ?_
          refine x_goto (tgt := 260) C dX9_single_256 (by decide) ?_
          refine x_sub [0, 5] (L' := [(0, .ref x0), (5, .int x5)]) rfl ?_
          exact w_X9_single_260 ts n rs hts hrs C B hrt dK hQ x0 x5 x0 (1 : Int32) _ _ _ _ _ _ (by omega) (by omega) hf
        · have hf := pf_t w13 hf
          refine x_aload_n C dX9_single_237 0 rfl ?_
          refine x_bipush (61 : Int32) C dX9_single_238 (by decide) ?_
          obtain ⟨r14, er14, hf⟩ := pf_b hf
          refine k_X6_is_2_X9 C B t6 dK (by omega) (by omega) er14 (Nat.le_of_ble_eq_true rfl) dX9_single_240 ?_
          refine x_if_ne (tgt := 255) C dX9_single_243 (by decide) (fun w15 => ?_) (fun w15 => ?_)
          · have hf := pf_f w15 hf
            refine x_iconst (1 : Int32) C dX9_single_255 (by decide) ?_
            refine x_goto (tgt := 260) C dX9_single_256 (by decide) ?_
            refine x_sub [0, 5] (L' := [(0, .ref x0), (5, .int x5)]) rfl ?_
            exact w_X9_single_260 ts n rs hts hrs C B hrt dK hQ x0 x5 x0 (1 : Int32) _ _ _ _ _ _ (by omega) (by omega) hf
          · have hf := pf_t w15 hf
            refine x_aload_n C dX9_single_246 0 rfl ?_
            refine x_bipush (62 : Int32) C dX9_single_247 (by decide) ?_
            obtain ⟨r16, er16, hf⟩ := pf_b hf
            refine k_X6_is_2_X9 C B t6 dK (by omega) (by omega) er16 (Nat.le_of_ble_eq_true rfl) dX9_single_249 ?_
            refine x_if_eq (tgt := 259) C dX9_single_252 (by decide) (fun w17 => ?_) (fun w17 => ?_)
            · have hf := pf_t w17 hf
              refine x_iconst (0 : Int32) C dX9_single_259 (by decide) ?_
              refine x_sub [0, 5] (L' := [(0, .ref x0), (5, .int x5)]) rfl ?_
              exact w_X9_single_260 ts n rs hts hrs C B hrt dK hQ x0 x5 x0 (0 : Int32) _ _ _ _ _ _ (by omega) (by omega) hf
            · have hf := pf_f w17 hf
              refine x_iconst (1 : Int32) C dX9_single_255 (by decide) ?_
              refine x_goto (tgt := 260) C dX9_single_256 (by decide) ?_
              refine x_sub [0, 5] (L' := [(0, .ref x0), (5, .int x5)]) rfl ?_
              exact w_X9_single_260 ts n rs hts hrs C B hrt dK hQ x0 x5 x0 (1 : Int32) _ _ _ _ _ _ (by omega) (by omega) hf
      · have hf := pf_f w11 hf
        obtain ⟨j21, i22, ej21, ei22, hf⟩ := pf_tk hf
        refine c_new15 C B q1568 dK (by omega) dX9_single_150 ?_
        obtain ⟨q18, eq18, hf⟩ := pf_e hf
        refine x_toprr eq18 ?_
        obtain ⟨da20, eda20, hf⟩ := pf_e hf
        obtain ⟨ga19, ega19, hf⟩ := pf_e hf
        rw [← eq18, ← eda20, ← ega19]
        refine x_dup C dX9_single_153 rfl ?_
        refine x_iload C dX9_single_154 4 rfl ?_
        refine x_iload C dX9_single_156 4 rfl ?_
        refine x_iconst (3 : Int32) C dX9_single_158 (by decide) ?_
        refine x_icmp_ge (tgt := 166) C dX9_single_159 (by decide) (fun w23 => ?_) (fun w23 => ?_)
        · have hf := pf_t w23 hf
          refine x_iload C dX9_single_166 4 rfl ?_
          refine x_iconst (3 : Int32) C dX9_single_168 (by decide) ?_
          refine x_icmp_ne (tgt := 199) C dX9_single_169 (by decide) (fun w24 => ?_) (fun w24 => ?_)
          · have hf := pf_f w24 hf
            refine x_aload_n C dX9_single_199 0 rfl ?_
            refine x_aload_n C dX9_single_200 0 rfl ?_
            obtain ⟨t25, hf⟩ := pf_ch hf
            obtain ⟨p26, ep26, hf⟩ := pf_b hf
            refine cg8_11 C B t25 (flo C q589) fsm ep26 dX9_single_201 ?_
            obtain ⟨t27, hf⟩ := pf_ch hf
            obtain ⟨p28, ep28, hf⟩ := pf_b hf
            refine cg1_6 C B t27 (fln B q623) fsm ep28 dX9_single_204 ?_
            obtain ⟨t29, hf⟩ := pf_ch hf
            obtain ⟨p30, ep30, hf⟩ := pf_b hf
            refine cg3_0 C B t29 (fln B q270) fsm ep30 dX9_single_207 ?_
            refine x_aload_n C dX9_single_210 0 rfl ?_
            refine cg8_11 C B t25 (flo C q589) fsm ep26 dX9_single_211 ?_
            refine cg1_6 C B t27 (fln B q623) fsm ep28 dX9_single_214 ?_
            refine cg3_17 C B t29 (fln B q325) fsm dX9_single_217 ?_
            obtain ⟨r31, er31, hf⟩ := pf_b hf
            obtain ⟨j32, i33, ej32, ei33, hf⟩ := pf_tk hf
            refine k_X6_known_X9 C B t25 dK (by omega) (by omega) er31 (Nat.le_of_ble_eq_true rfl) dX9_single_220 (fun q eq => ?_) (fun r34 er34 => ?_)
            · obtain ⟨rfl, rfl, rfl, rfl, rfl⟩ := pf_xr eq hf
              exact c_csT (by omega) (by omega) (c_out C hQ)
            have hf := pf_xl er34 hf
            obtain ⟨r35, er35, hf⟩ := pf_b hf
            obtain ⟨j36, i37, ej36, ei37, hf⟩ := pf_tk hf
            refine k_X18_init_X9 C B dK (by omega) (by omega) er35 (Nat.le_of_ble_eq_true rfl) dX9_single_223 ?_
            obtain ⟨rfl, rfl, rfl, rfl, rfl⟩ := sr_inj hf
            refine c_cs (c0 := c1) (s0 := s1) (by omega) (by omega) ?_
            exact x_ret hQ (c_aret (K := kW K _) C hrt (Or.inl ⟨_, rfl⟩) rfl dX9_single_226)
          · have hf := pf_t w24 hf
            refine x_aload_n C dX9_single_172 0 rfl ?_
            refine x_aload_n C dX9_single_173 0 rfl ?_
            obtain ⟨t38, hf⟩ := pf_ch hf
            obtain ⟨p39, ep39, hf⟩ := pf_b hf
            refine cg8_11 C B t38 (flo C q589) fsm ep39 dX9_single_174 ?_
            obtain ⟨t40, hf⟩ := pf_ch hf
            obtain ⟨p41, ep41, hf⟩ := pf_b hf
            refine cg1_6 C B t40 (fln B q623) fsm ep41 dX9_single_177 ?_
            obtain ⟨t42, hf⟩ := pf_ch hf
            obtain ⟨p43, ep43, hf⟩ := pf_b hf
            refine cg3_1 C B t42 (fln B q275) fsm ep43 dX9_single_180 ?_
            refine x_aload_n C dX9_single_183 0 rfl ?_
            refine cg8_11 C B t38 (flo C q589) fsm ep39 dX9_single_184 ?_
            refine cg1_6 C B t40 (fln B q623) fsm ep41 dX9_single_187 ?_
            refine cg3_19 C B t42 (fln B q331) fsm dX9_single_190 ?_
            obtain ⟨r44, er44, hf⟩ := pf_b hf
            obtain ⟨j45, i46, ej45, ei46, hf⟩ := pf_tk hf
            refine k_X6_known_X9 C B t38 dK (by omega) (by omega) er44 (Nat.le_of_ble_eq_true rfl) dX9_single_193 (fun q eq => ?_) (fun r47 er47 => ?_)
            · obtain ⟨rfl, rfl, rfl, rfl, rfl⟩ := pf_xr eq hf
              exact c_csT (by omega) (by omega) (c_out C hQ)
            have hf := pf_xl er47 hf
            refine x_goto (tgt := 223) C dX9_single_196 (by decide) ?_
            obtain ⟨r48, er48, hf⟩ := pf_b hf
            obtain ⟨j49, i50, ej49, ei50, hf⟩ := pf_tk hf
            refine k_X18_init_X9 C B dK (by omega) (by omega) er48 (Nat.le_of_ble_eq_true rfl) dX9_single_223 ?_
            obtain ⟨rfl, rfl, rfl, rfl, rfl⟩ := sr_inj hf
            refine c_cs (c0 := c1) (s0 := s1) (by omega) (by omega) ?_
            exact x_ret hQ (c_aret (K := kW K _) C hrt (Or.inl ⟨_, rfl⟩) rfl dX9_single_226)
        · have hf := pf_f w23 hf
          refine x_iconst (-1 : Int32) C dX9_single_162 (by decide) ?_
          refine x_goto (tgt := 223) C dX9_single_163 (by decide) ?_
          obtain ⟨r51, er51, hf⟩ := pf_b hf
          obtain ⟨j52, i53, ej52, ei53, hf⟩ := pf_tk hf
          refine k_X18_init_X9 C B dK (by omega) (by omega) er51 (Nat.le_of_ble_eq_true rfl) dX9_single_223 ?_
          obtain ⟨rfl, rfl, rfl, rfl, rfl⟩ := sr_inj hf
          refine c_cs (c0 := c1) (s0 := s1) (by omega) (by omega) ?_
          exact x_ret hQ (c_aret (K := kW K _) C hrt (Or.inl ⟨_, rfl⟩) rfl dX9_single_226)
    · have hf := pf_f w10 hf
      refine x_aload_n C dX9_single_126 0 rfl ?_
      refine x_iload_n C dX9_single_127 1 rfl ?_
      refine x_iconst (1 : Int32) C dX9_single_128 (by decide) ?_
      refine x_iadd C dX9_single_129 ?_
      obtain ⟨r54, er54, hf⟩ := pf_b hf
      obtain ⟨j55, i56, ej55, ei56, hf⟩ := pf_tk hf
      refine k_X9_any_X9 hts hrs C B t6 dK (by omega) (by omega) er54 (Nat.le_of_ble_eq_true rfl) dX9_single_130 (fun q eq => ?_) (fun r57 er57 => ?_)
      · obtain ⟨rfl, rfl, rfl, rfl, rfl⟩ := pf_xr eq hf
        exact c_csT (by omega) (by omega) (c_out C hQ)
      have hf := pf_xl er57 hf
      refine x_astore (L' := [(0, .ref x0), (6, .ref r57)]) C dX9_single_133 (Nat.le_of_ble_eq_true rfl) [1, 0] rfl ?_
      refine x_aload_n C dX9_single_135 0 rfl ?_
      refine x_bipush (41 : Int32) C dX9_single_136 (by decide) ?_
      obtain ⟨t58, hf⟩ := pf_ch hf
      obtain ⟨r59, er59, hf⟩ := pf_b hf
      obtain ⟨j60, i61, ej60, ei61, hf⟩ := pf_tk hf
      refine k_X6_sign_X9 C B t58 dK (by omega) (by omega) er59 (Nat.le_of_ble_eq_true rfl) dX9_single_138 (fun q eq => ?_) (fun r62 er62 => ?_)
      · obtain ⟨rfl, rfl, rfl, rfl, rfl⟩ := pf_xr eq hf
        exact c_csT (by omega) (by omega) (c_out C hQ)
      have hf := pf_xl er62 hf
      refine x_aload C dX9_single_141 1 rfl ?_
      obtain ⟨rfl, rfl, rfl, rfl, rfl⟩ := sr_inj hf
      refine c_cs (c0 := c1) (s0 := s1) (by omega) (by omega) ?_
      exact x_ret hQ (c_aret (K := kW K _) C hrt (Or.inl ⟨_, rfl⟩) rfl dX9_single_143)
  · have hf := pf_f w9 hf
    obtain ⟨j66, i67, ej66, ei67, hf⟩ := pf_tk hf
    refine c_new14 C B q1555 dK (by omega) dX9_single_107 ?_
    obtain ⟨q63, eq63, hf⟩ := pf_e hf
    refine x_toprr eq63 ?_
    obtain ⟨da65, eda65, hf⟩ := pf_e hf
    obtain ⟨ga64, ega64, hf⟩ := pf_e hf
    rw [← eq63, ← eda65, ← ega64]
    refine x_dup C dX9_single_110 rfl ?_
    refine x_aload_n C dX9_single_111 0 rfl ?_
    refine x_iload_n C dX9_single_112 1 rfl ?_
    refine x_iconst (1 : Int32) C dX9_single_113 (by decide) ?_
    refine x_iadd C dX9_single_114 ?_
    obtain ⟨t68, hf⟩ := pf_ch hf
    obtain ⟨r69, er69, hf⟩ := pf_b hf
    obtain ⟨j70, i71, ej70, ei71, hf⟩ := pf_tk hf
    refine k_X9_single_X9 hrs C B t68 dK (by omega) (by omega) er69 (Nat.le_of_ble_eq_true rfl) dX9_single_115 (fun q eq => ?_) (fun r72 er72 => ?_)
    · obtain ⟨rfl, rfl, rfl, rfl, rfl⟩ := pf_xr eq hf
      exact c_csT (by omega) (by omega) (c_out C hQ)
    have hf := pf_xl er72 hf
    obtain ⟨r73, er73, hf⟩ := pf_b hf
    obtain ⟨j74, i75, ej74, ei75, hf⟩ := pf_tk hf
    refine k_X17_init_X9 C B dK (by omega) (by omega) er73 (Nat.le_of_ble_eq_true rfl) dX9_single_118 ?_
    obtain ⟨rfl, rfl, rfl, rfl, rfl⟩ := sr_inj hf
    refine c_cs (c0 := c1) (s0 := s1) (by omega) (by omega) ?_
    exact x_ret hQ (c_aret (K := kW K _) C hrt (Or.inl ⟨_, rfl⟩) rfl dX9_single_121)
def f_X9_single_L60 (ts : Nat → Nat) (n : Nat) (rs : Nat → Int32 → CG → CD → Option (XR Nat)) (x0 : Nat) (x1 : Int32) (x2 : Int32) (x3 : Int32) (x4 : Int32) (x5 : Int32) (y0 : Nat) (y1 : Int32) (g : CG) (d : CD) : Option (XR Nat) := if ht g y0 = 8 then (f_X6_must y0 y1 (1 : Int32) g d).bind fun r2 => tick r2.2.2.2.1 r2.2.2.2.2 (xcase r2 fun r5 => if ht r2.2.1 x0 = 8 then if (20 : Int32) ≤ (hi r2.2.2.1 x0 10) then (f_X9_single_L85 ts n rs x0 x1 x2 x3 x4 x5 x0 (0 : Int32) r2.2.1 r2.2.2.1) else (if (8 : Int32) < x1 then (f_X9_single_L85 ts n rs x0 x1 x2 x3 x4 x5 x0 (0 : Int32) r2.2.1 r2.2.2.1) else (f_X9_single_L85 ts n rs x0 x1 x2 x3 x4 x5 x0 (1 : Int32) r2.2.1 r2.2.2.1)) else none) else none
set_option maxHeartbeats 4000000 in
theorem w_X9_single_60 {K : KT} {T : CT} {r : (Nat ⊕ Nat)} {g9 : CG} {d9 : CD} {c1 s1 : Nat} (ts : Nat → Nat) (n : Nat) (rs : Nat → Int32 → CG → CD → Option (XR Nat)) (hts : tS T = ts) {rf : Nat} (hrs : RS9 (kL K) T rf rs) (C : Kok K cX9_single 8 RX9) (B : CB K T) (hrt : (kMe K).sig.returnType = (some (.object "StatueRent$Cond"))) (dK : kR K = rmC (20 + 3 * rf + 3) c1 s1) (hQ : KQx K T (xoR r) c1 s1 g9 d9) (x0 : Nat) (x1 : Int32) (x2 : Int32) (x3 : Int32) (x4 : Int32) (x5 : Int32) (y0 : Nat) (y1 : Int32) (g : CG) (d : CD) (c0 s0 k m9 : Nat) (hc : c1 = c0 + k) (hs : s1 = s0 + m9) (hf : f_X9_single_L60 ts n rs x0 x1 x2 x3 x4 x5 y0 y1 g d = some (r, g9, d9, k, m9)) : XJ K 8 (Wc K T c0 s0 g d) 60 [(0, .ref x0), (1, .int x1), (2, .int x2), (3, .int x3), (4, .int x4), (5, .int x5)] [.int y1, .ref y0] := by
  unfold f_X9_single_L60 at hf
  refine x_iconst (1 : Int32) C dX9_single_60 (by decide) ?_
  obtain ⟨t1, hf⟩ := pf_ch hf
  obtain ⟨r2, er2, hf⟩ := pf_b hf
  obtain ⟨j3, i4, ej3, ei4, hf⟩ := pf_tk hf
  refine k_X6_must_X9 C B t1 dK (by omega) (by omega) er2 (Nat.le_of_ble_eq_true rfl) dX9_single_61 (fun q eq => ?_) (fun r5 er5 => ?_)
  · obtain ⟨rfl, rfl, rfl, rfl, rfl⟩ := pf_xr eq hf
    exact c_csT (by omega) (by omega) (c_out C hQ)
  have hf := pf_xl er5 hf
  refine x_aload_n C dX9_single_64 0 rfl ?_
  refine x_aload_n C dX9_single_65 0 rfl ?_
  obtain ⟨t6, hf⟩ := pf_ch hf
  refine cg8_10 C B t6 (flo C q587) fsm dX9_single_66 ?_
  refine x_bipush (20 : Int32) C dX9_single_69 (by decide) ?_
  refine x_icmp_ge (tgt := 84) C dX9_single_71 (by decide) (fun w7 => ?_) (fun w7 => ?_)
  · have hf := pf_t w7 hf
    refine x_iconst (0 : Int32) C dX9_single_84 (by decide) ?_
    exact w_X9_single_85 ts n rs hts hrs C B hrt dK hQ x0 x1 x2 x3 x4 x5 x0 (0 : Int32) _ _ _ _ _ _ (by omega) (by omega) hf
  · have hf := pf_f w7 hf
    refine x_iload_n C dX9_single_74 1 rfl ?_
    refine x_bipush (8 : Int32) C dX9_single_75 (by decide) ?_
    refine x_icmp_gt (tgt := 84) C dX9_single_77 (by decide) (fun w8 => ?_) (fun w8 => ?_)
    · have hf := pf_t w8 hf
      refine x_iconst (0 : Int32) C dX9_single_84 (by decide) ?_
      exact w_X9_single_85 ts n rs hts hrs C B hrt dK hQ x0 x1 x2 x3 x4 x5 x0 (0 : Int32) _ _ _ _ _ _ (by omega) (by omega) hf
    · have hf := pf_f w8 hf
      refine x_iconst (1 : Int32) C dX9_single_80 (by decide) ?_
      refine x_goto (tgt := 85) C dX9_single_81 (by decide) ?_
      exact w_X9_single_85 ts n rs hts hrs C B hrt dK hQ x0 x1 x2 x3 x4 x5 x0 (1 : Int32) _ _ _ _ _ _ (by omega) (by omega) hf
def f_X9_single (ts : Nat → Nat) (n : Nat) (rs : Nat → Int32 → CG → CD → Option (XR Nat)) (x0 : Nat) (x1 : Int32) (g : CG) (d : CD) : Option (XR Nat) := if ht g x0 = 8 then (f_X6_is n g d x0 (ts 14)).bind fun r2 => (f_X6_is_2 g d x0 (40 : Int32)).bind fun r3 => (hr g x0 8).bind fun p4 => (f_X6_find n g d x0 p4).bind fun r5 => (hr g x0 9).bind fun p6 => (f_X6_find n g d x0 p6).bind fun r7 => if r2 = 0 then (if r3 = 0 then (if r5 = (-1 : Int32) then (if r7 = (-1 : Int32) then (f_X9_single_L60 ts n rs x0 x1 r2 r3 r5 r7 x0 (0 : Int32) g d) else (f_X9_single_L60 ts n rs x0 x1 r2 r3 r5 r7 x0 (1 : Int32) g d)) else (f_X9_single_L60 ts n rs x0 x1 r2 r3 r5 r7 x0 (1 : Int32) g d)) else (f_X9_single_L60 ts n rs x0 x1 r2 r3 r5 r7 x0 (1 : Int32) g d)) else (f_X9_single_L60 ts n rs x0 x1 r2 r3 r5 r7 x0 (1 : Int32) g d) else none
set_option maxHeartbeats 4000000 in
theorem w_X9_single_E {K : KT} {T : CT} {r : (Nat ⊕ Nat)} {g9 : CG} {d9 : CD} {c1 s1 : Nat} (ts : Nat → Nat) (n : Nat) (rs : Nat → Int32 → CG → CD → Option (XR Nat)) (hts : tS T = ts) {rf : Nat} (hrs : RS9 (kL K) T rf rs) (C : Kok K cX9_single 8 RX9) (B : CB K T) (hrt : (kMe K).sig.returnType = (some (.object "StatueRent$Cond"))) (dK : kR K = rmC (20 + 3 * rf + 3) c1 s1) (hQ : KQx K T (xoR r) c1 s1 g9 d9) (x0 : Nat) (x1 : Int32) (g : CG) (d : CD) (c0 s0 k m9 : Nat) (hc : c1 = c0 + k) (hs : s1 = s0 + m9) (hf : f_X9_single ts n rs x0 x1 g d = some (r, g9, d9, k, m9)) : XJ K 8 (Wc K T c0 s0 g d) 0 [(0, .ref x0), (1, .int x1)] [] := by
  unfold f_X9_single at hf
  refine x_aload_n C dX9_single_0 0 rfl ?_
  refine c_ldcS 41 C B rfl dX9_single_1 ?_
  rw [hts]
  obtain ⟨t1, hf⟩ := pf_ch hf
  obtain ⟨r2, er2, hf⟩ := pf_b hf
  refine k_X6_is_X9 C B t1 dK (by omega) (by omega) er2 (Nat.le_of_ble_eq_true rfl) dX9_single_3 ?_
  refine x_istore_n (L' := [(0, .ref x0), (1, .int x1), (2, .int r2)]) C dX9_single_6 (Nat.le_of_ble_eq_true rfl) [1, 2, 0] rfl ?_
  refine x_aload_n C dX9_single_7 0 rfl ?_
  refine x_bipush (40 : Int32) C dX9_single_8 (by decide) ?_
  obtain ⟨r3, er3, hf⟩ := pf_b hf
  refine k_X6_is_2_X9 C B t1 dK (by omega) (by omega) er3 (Nat.le_of_ble_eq_true rfl) dX9_single_10 ?_
  refine x_istore_n (L' := [(0, .ref x0), (1, .int x1), (2, .int r2), (3, .int r3)]) C dX9_single_13 (Nat.le_of_ble_eq_true rfl) [1, 2, 3, 0] rfl ?_
  refine x_aload_n C dX9_single_14 0 rfl ?_
  refine x_aload_n C dX9_single_15 0 rfl ?_
  obtain ⟨p4, ep4, hf⟩ := pf_b hf
  refine cg8_8 C B t1 (flo C q585) fsm ep4 dX9_single_16 ?_
  obtain ⟨r5, er5, hf⟩ := pf_b hf
  refine k_X6_find_X9 C B t1 dK (by omega) (by omega) er5 (Nat.le_of_ble_eq_true rfl) dX9_single_19 ?_
  refine x_istore (L' := [(0, .ref x0), (1, .int x1), (2, .int r2), (3, .int r3), (4, .int r5)]) C dX9_single_22 (Nat.le_of_ble_eq_true rfl) [1, 2, 3, 4, 0] rfl ?_
  refine x_aload_n C dX9_single_24 0 rfl ?_
  refine x_aload_n C dX9_single_25 0 rfl ?_
  obtain ⟨p6, ep6, hf⟩ := pf_b hf
  refine cg8_9 C B t1 (flo C q586) fsm ep6 dX9_single_26 ?_
  obtain ⟨r7, er7, hf⟩ := pf_b hf
  refine k_X6_find_X9 C B t1 dK (by omega) (by omega) er7 (Nat.le_of_ble_eq_true rfl) dX9_single_29 ?_
  refine x_istore (L' := [(0, .ref x0), (1, .int x1), (2, .int r2), (3, .int r3), (4, .int r5), (5, .int r7)]) C dX9_single_32 (Nat.le_of_ble_eq_true rfl) [1, 2, 3, 4, 5, 0] rfl ?_
  refine x_aload_n C dX9_single_34 0 rfl ?_
  refine x_iload_n C dX9_single_35 2 rfl ?_
  refine x_if_ne (tgt := 55) C dX9_single_36 (by decide) (fun w8 => ?_) (fun w8 => ?_)
  · have hf := pf_f w8 hf
    refine x_iconst (1 : Int32) C dX9_single_55 (by decide) ?_
    refine x_goto (tgt := 60) C dX9_single_56 (by decide) ?_
    exact w_X9_single_60 ts n rs hts hrs C B hrt dK hQ x0 x1 r2 r3 r5 r7 x0 (1 : Int32) _ _ _ _ _ _ (by omega) (by omega) hf
  · have hf := pf_t w8 hf
    refine x_iload_n C dX9_single_39 3 rfl ?_
    refine x_if_ne (tgt := 55) C dX9_single_40 (by decide) (fun w9 => ?_) (fun w9 => ?_)
    · have hf := pf_f w9 hf
      refine x_iconst (1 : Int32) C dX9_single_55 (by decide) ?_
      refine x_goto (tgt := 60) C dX9_single_56 (by decide) ?_
      exact w_X9_single_60 ts n rs hts hrs C B hrt dK hQ x0 x1 r2 r3 r5 r7 x0 (1 : Int32) _ _ _ _ _ _ (by omega) (by omega) hf
    · have hf := pf_t w9 hf
      refine x_iload C dX9_single_43 4 rfl ?_
      refine x_iconst (-1 : Int32) C dX9_single_45 (by decide) ?_
      refine x_icmp_ne (tgt := 55) C dX9_single_46 (by decide) (fun w10 => ?_) (fun w10 => ?_)
      · have hf := pf_f w10 hf
        refine x_iconst (1 : Int32) C dX9_single_55 (by decide) ?_
        refine x_goto (tgt := 60) C dX9_single_56 (by decide) ?_
        exact w_X9_single_60 ts n rs hts hrs C B hrt dK hQ x0 x1 r2 r3 r5 r7 x0 (1 : Int32) _ _ _ _ _ _ (by omega) (by omega) hf
      · have hf := pf_t w10 hf
        refine x_iload C dX9_single_49 5 rfl ?_
        refine x_iconst (-1 : Int32) C dX9_single_51 (by decide) ?_
        refine x_icmp_eq (tgt := 59) C dX9_single_52 (by decide) (fun w11 => ?_) (fun w11 => ?_)
        · have hf := pf_t w11 hf
          refine x_iconst (0 : Int32) C dX9_single_59 (by decide) ?_
          exact w_X9_single_60 ts n rs hts hrs C B hrt dK hQ x0 x1 r2 r3 r5 r7 x0 (0 : Int32) _ _ _ _ _ _ (by omega) (by omega) hf
        · have hf := pf_f w11 hf
          refine x_iconst (1 : Int32) C dX9_single_55 (by decide) ?_
          refine x_goto (tgt := 60) C dX9_single_56 (by decide) ?_
          exact w_X9_single_60 ts n rs hts hrs C B hrt dK hQ x0 x1 r2 r3 r5 r7 x0 (1 : Int32) _ _ _ _ _ _ (by omega) (by omega) hf
theorem met_X9_single {T : CT} {v : (XR Nat)} {n : Nat} {g : CG} {d : CD} {x0 : Nat} {x1 : Int32} {rs : Nat → Int32 → CG → CD → Option (XR Nat)} {rf : Nat} {l : Launch} (hrs : RS9 l T rf rs) (hf : f_X9_single (tS T) n rs x0 x1 g d = some v) : vy_Met l yX9_single (ws_ yX9_single cX9_single 8 (some (.object "StatueRent$Cond"))) (rmC (20 + 3 * rf + 3) v.2.2.2.1 v.2.2.2.2) (va_Pc [.ref x0, .int x1] (CU T g d)) (Qx T (xoR v.1) v.2.1 v.2.2.1) (Xx T (xoR v.1) v.2.1 v.2.2.1) v.2.2.2.1 v.2.2.2.2 (cA T) :=
  cx_met [.ref x0, .int x1] RX9 (by decide) rfl (Nat.le_of_ble_eq_true rfl) (fun K hl hR hrt C B hQ => by subst hl; exact w_X9_single_E (tS T) n rs rfl hrs C B hrt hR hQ _ _ _ _ 0 0 _ _ (Nat.zero_add _).symm (Nat.zero_add _).symm hf)
def f_single (ts : Nat → Nat) (n : Nat) : Nat → Nat → Int32 → CG → CD → Option (XR Nat)
  | 0 => fun _ _ _ _ => none
  | rf + 1 => fun x k g d => f_X9_single ts n (f_single ts n rf) x k g d
theorem rs9 (l : Launch) (T : CT) (n : Nat) : ∀ rf : Nat, RS9 l T rf (f_single (tS T) n rf)
  | 0 => fun x k g d v h => by cases h
  | rf + 1 => fun x k g d v h => met_X9_single (rs9 l T n rf) h
theorem k_X6_begin_X9 {K : KT} {T : CT} {c0 s0 c1 s1 dk : Nat} {cc : ByteArray} {nL pc : Nat} {L : List (Nat × Value)} {rest : List Value} {g : CG} {d : CD} {v : CD} {n : Nat} {x0 : Nat} (C : Kok K cc nL RX9) (B : CB K T) (hta : ht g x0 = 8) (dK : kR K = rmC dk c1 s1) (hd : 6 + 1 ≤ dk) (hcs : c0 + 0 ≤ c1 ∧ s0 + 0 ≤ s1) (hf : f_X6_begin n g x0 d = some v) (hW : (rest.map fun v => v.category).sum ≤ 8) (dd : decode cc pc = .ok (.invokevirtual 46, 3)) (kk2 : XJ K nL (Wc K T c0 s0 g v) (pc + 3) L (rest)) : XJ K nL (Wc K T c0 s0 g d) pc L (.ref x0 :: rest) := by
  have e := hta
  · exact c_callU (rest := rest) (v := none) (x := ⟨"StatueRent$SentenceReader", "begin", "()V"⟩) (owner := "StatueRent$Reader") [] 0 rfl C B e (by decide) (by decide) rfl dK hd (Nat.le_of_ble_eq_true rfl) hcs q772 q1523 q1524 (C.2.2.2.2.1 _ q1525) q771 q128 rfl (by decide +kernel) (met_X6_begin hf) rfl hW dd kk2
def f_X9_read (ts : Nat → Nat) (n : Nat) (x0 : Nat) (g : CG) (d : CD) : Option (XR Nat) := if ht g x0 = 8 then ev (wi d x0 10 (0 : Int32)) fun da2 => (f_X6_begin n g x0 da2).bind fun r3 => (f_X9_any ts n (f_single ts n 12) x0 (1 : Int32) g r3).bind fun r4 => tick r4.2.2.2.1 r4.2.2.2.2 (xcase r4 fun r7 => if ht r4.2.1 x0 = 8 then if (hi r4.2.2.1 x0 3) = 0 then ((f_X6_must x0 (1 : Int32) (1 : Int32) r4.2.1 r4.2.2.1).bind fun r14 => tick r14.2.2.2.1 r14.2.2.2.2 (xcase r14 fun r17 => some (.inl r7, r14.2.1, r14.2.2.1, 0, 0))) else ((f_X6_must x0 (0 : Int32) (1 : Int32) r4.2.1 r4.2.2.1).bind fun r10 => tick r10.2.2.2.1 r10.2.2.2.2 (xcase r10 fun r13 => some (.inl r7, r10.2.1, r10.2.2.1, 0, 0))) else none) else none
set_option maxHeartbeats 4000000 in
theorem w_X9_read_E {K : KT} {T : CT} {r : (Nat ⊕ Nat)} {g9 : CG} {d9 : CD} {c1 s1 : Nat} (ts : Nat → Nat) (n : Nat) (hts : tS T = ts) (C : Kok K cX9_read 2 RX9) (B : CB K T) (hrt : (kMe K).sig.returnType = (some (.object "StatueRent$Cond"))) (dK : kR K = rmC 60 c1 s1) (hQ : KQx K T (xoR r) c1 s1 g9 d9) (x0 : Nat) (g : CG) (d : CD) (c0 s0 k m9 : Nat) (hc : c1 = c0 + k) (hs : s1 = s0 + m9) (hf : f_X9_read ts n x0 g d = some (r, g9, d9, k, m9)) : XJ K 2 (Wc K T c0 s0 g d) 0 [(0, .ref x0)] [] := by
  unfold f_X9_read at hf
  refine x_aload_n C dX9_read_0 0 rfl ?_
  refine x_iconst (0 : Int32) C dX9_read_1 (by decide) ?_
  obtain ⟨t1, hf⟩ := pf_ch hf
  refine cp8_10 C B t1 (flo C q587) fsm dX9_read_2 ?_
  obtain ⟨da2, eda2, hf⟩ := pf_e hf
  refine c_ren eda2 ?_
  refine x_aload_n C dX9_read_5 0 rfl ?_
  obtain ⟨r3, er3, hf⟩ := pf_b hf
  refine k_X6_begin_X9 C B t1 dK (Nat.le_of_ble_eq_true rfl) (by omega) er3 (Nat.le_of_ble_eq_true rfl) dX9_read_6 ?_
  refine x_aload_n C dX9_read_9 0 rfl ?_
  refine x_iconst (1 : Int32) C dX9_read_10 (by decide) ?_
  obtain ⟨r4, er4, hf⟩ := pf_b hf
  obtain ⟨j5, i6, ej5, ei6, hf⟩ := pf_tk hf
  refine k_X9_any_X9 hts (hts ▸ rs9 _ _ _ 12) C B t1 dK (Nat.le_of_ble_eq_true rfl) (by omega) er4 (Nat.le_of_ble_eq_true rfl) dX9_read_11 (fun q eq => ?_) (fun r7 er7 => ?_)
  · obtain ⟨rfl, rfl, rfl, rfl, rfl⟩ := pf_xr eq hf
    exact c_csT (by omega) (by omega) (c_out C hQ)
  have hf := pf_xl er7 hf
  refine x_astore_n (L' := [(0, .ref x0), (1, .ref r7)]) C dX9_read_14 (Nat.le_of_ble_eq_true rfl) [1, 0] rfl ?_
  refine x_aload_n C dX9_read_15 0 rfl ?_
  refine x_aload_n C dX9_read_16 0 rfl ?_
  obtain ⟨t8, hf⟩ := pf_ch hf
  refine cg8_3 C B t8 (flo C q498) (fsq C q499) dX9_read_17 ?_
  refine x_if_ne (tgt := 27) C dX9_read_20 (by decide) (fun w9 => ?_) (fun w9 => ?_)
  · have hf := pf_f w9 hf
    refine x_iconst (0 : Int32) C dX9_read_27 (by decide) ?_
    refine x_iconst (1 : Int32) C dX9_read_28 (by decide) ?_
    obtain ⟨r10, er10, hf⟩ := pf_b hf
    obtain ⟨j11, i12, ej11, ei12, hf⟩ := pf_tk hf
    refine k_X6_must_X9 C B t8 dK (Nat.le_of_ble_eq_true rfl) (by omega) er10 (Nat.le_of_ble_eq_true rfl) dX9_read_29 (fun q eq => ?_) (fun r13 er13 => ?_)
    · obtain ⟨rfl, rfl, rfl, rfl, rfl⟩ := pf_xr eq hf
      exact c_csT (by omega) (by omega) (c_out C hQ)
    have hf := pf_xl er13 hf
    refine x_aload_n C dX9_read_32 1 rfl ?_
    obtain ⟨rfl, rfl, rfl, rfl, rfl⟩ := sr_inj hf
    refine c_cs (c0 := c1) (s0 := s1) (by omega) (by omega) ?_
    exact x_ret hQ (c_aret (K := kW K _) C hrt (Or.inl ⟨_, rfl⟩) rfl dX9_read_33)
  · have hf := pf_t w9 hf
    refine x_iconst (1 : Int32) C dX9_read_23 (by decide) ?_
    refine x_goto (tgt := 28) C dX9_read_24 (by decide) ?_
    refine x_iconst (1 : Int32) C dX9_read_28 (by decide) ?_
    obtain ⟨r14, er14, hf⟩ := pf_b hf
    obtain ⟨j15, i16, ej15, ei16, hf⟩ := pf_tk hf
    refine k_X6_must_X9 C B t8 dK (Nat.le_of_ble_eq_true rfl) (by omega) er14 (Nat.le_of_ble_eq_true rfl) dX9_read_29 (fun q eq => ?_) (fun r17 er17 => ?_)
    · obtain ⟨rfl, rfl, rfl, rfl, rfl⟩ := pf_xr eq hf
      exact c_csT (by omega) (by omega) (c_out C hQ)
    have hf := pf_xl er17 hf
    refine x_aload_n C dX9_read_32 1 rfl ?_
    obtain ⟨rfl, rfl, rfl, rfl, rfl⟩ := sr_inj hf
    refine c_cs (c0 := c1) (s0 := s1) (by omega) (by omega) ?_
    exact x_ret hQ (c_aret (K := kW K _) C hrt (Or.inl ⟨_, rfl⟩) rfl dX9_read_33)
theorem met_X9_read {T : CT} {v : (XR Nat)} {n : Nat} {g : CG} {d : CD} {x0 : Nat} {l : Launch}  (hf : f_X9_read (tS T) n x0 g d = some v) : vy_Met l yX9_read (ws_ yX9_read cX9_read 2 (some (.object "StatueRent$Cond"))) (rmC 60 v.2.2.2.1 v.2.2.2.2) (va_Pc [.ref x0] (CU T g d)) (Qx T (xoR v.1) v.2.1 v.2.2.1) (Xx T (xoR v.1) v.2.1 v.2.2.1) v.2.2.2.1 v.2.2.2.2 (cA T) :=
  cx_met [.ref x0] RX9 (by decide) rfl (Nat.le_of_ble_eq_true rfl) (fun K hl hR hrt C B hQ => w_X9_read_E (tS T) n rfl C B hrt hR hQ _ _ _ 0 0 _ _ (Nat.zero_add _).symm (Nat.zero_add _).symm hf)
