set_option maxRecDepth 100000
def f_X5_init (x0 : Nat) (g : CG) (d : CD) : Option (SR Unit) := some ((), g, d, 0, 0)
set_option maxHeartbeats 4000000 in
theorem w_X5_init_E {K : KT} {T : CT} {r : Unit} {g9 : CG} {d9 : CD} {c1 s1 : Nat} (C : Kok K cX5_init 1 RX5) (B : CB K T) (hrt : (kMe K).sig.returnType = none) (hini : (kMe K).name = "<init>") (dK : kR K = rmC 3 c1 s1) (hQ : KQc K T none c1 s1 g9 d9) (x0 : Nat) (g : CG) (d : CD) (c0 s0 k m9 : Nat) (hc : c1 = c0 + k) (hs : s1 = s0 + m9) (hf : f_X5_init x0 g d = some (r, g9, d9, k, m9)) : XJ K 1 (Wc K T c0 s0 g d) 0 [(0, .ref x0)] [] := by
  unfold f_X5_init at hf
  refine x_aload_n C dX5_init_0 0 rfl ?_
  refine c_objI C q408 dK (Nat.le_of_ble_eq_true rfl) (Nat.le_of_ble_eq_true rfl) dX5_init_1 ?_
  obtain ⟨rfl, rfl, rfl, rfl, rfl⟩ := sr_inj hf
  refine c_cs (c0 := c1) (s0 := s1) (by omega) (by omega) ?_
  exact c_vret C hrt hQ dX5_init_4
theorem met_X5_init {T : CT} {v : (SR Unit)} {g : CG} {d : CD} {x0 : Nat} {l : Launch} (hf : f_X5_init x0 g d = some v) : Met l yX5_init (ws_ yX5_init cX5_init 1 none) (rmC 3 v.2.2.2.1 v.2.2.2.2) (va_Pc [.ref x0] (CU T g d)) (Qc T none v.2.1 v.2.2.1) v.2.2.2.1 v.2.2.2.2 (cA T) :=
  c_metS [.ref x0] RX5 (by decide) rfl (Nat.le_of_ble_eq_true rfl) (fun K hl hR hrt hnm C B hQ => w_X5_init_E C B hrt hnm hR hQ _ _ _ 0 0 _ _ (Nat.zero_add _).symm (Nat.zero_add _).symm hf)
theorem k_X5_init_X4 {K : KT} {T : CT} {c0 s0 c1 s1 dk : Nat} {cc : ByteArray} {nL pc : Nat} {L : List (Nat × Value)} {rest : List Value} {g : CG} {d : CD} {v : (SR Unit)} {x0 : Nat} (C : Kok K cc nL RX4) (B : CB K T) (dK : kR K = rmC dk c1 s1) (hd : 3 + 1 ≤ dk) (hcs : c0 + v.2.2.2.1 ≤ c1 ∧ s0 + v.2.2.2.2 ≤ s1) (hf : f_X5_init x0 g d = some v) (hW : (rest.map fun v => v.category).sum ≤ 8) (dd : decode cc pc = .ok (.invokespecial 27, 3)) (kk2 : XJ K nL (Wc K T (c0 + v.2.2.2.1) (s0 + v.2.2.2.2) v.2.1 v.2.2.1) (pc + 3) L (rest)) : XJ K nL (Wc K T c0 s0 g d) pc L (.ref x0 :: rest) := by
  exact c_callIN (rest := rest) (v := none) [] 0 rfl C B dK hd (Nat.le_of_ble_eq_true rfl) hcs q407 q405 q406 q127 rfl (by decide +kernel) (met_X5_init hf) rfl hW dd kk2
def f_X4_init_L39 (n : Nat) : Nat → Nat → Int32 → CG → CD → Option (SR Unit)
  | 0, _, _, _, _ => none
  | m + 1, x0, x1, g, d => if (8 : Int32) ≤ x1 then (some ((), g, d, 0, 0)) else (if ht g x0 = 4 then (hr g x0 0).bind fun p3 => tick 1 6 (ev (hz g) fun q4 => ev (nd d q4) fun da6 => ev (na g 5 0) fun ga5 => (f_X5_init q4 ga5 da6).bind fun r9 => tick r9.2.2.2.1 r9.2.2.2.2 (if ht r9.2.1 p3 = 105 then if inb x1 (hn r9.2.1 p3) = true then if ht r9.2.1 q4 = 5 then ev (wr r9.2.1 p3 (Int32.toNatClampNeg x1) (some q4)) fun ga15 => f_X4_init_L39 n m x0 (x1 + (1 : Int32)) ga15 r9.2.2.1 else none else none else none)) else none)
set_option maxHeartbeats 4000000 in
theorem w_X4_init_39 {K : KT} {T : CT} {r : Unit} {g9 : CG} {d9 : CD} {c1 s1 : Nat} (n : Nat) (C : Kok K cX4_init 2 RX4) (B : CB K T) (hrt : (kMe K).sig.returnType = none) (hini : (kMe K).name = "<init>") (dK : kR K = rmC 4 c1 s1) (hQ : KQc K T none c1 s1 g9 d9) : ∀ (m : Nat) (x0 : Nat) (x1 : Int32) (g : CG) (d : CD) (c0 s0 k m9 : Nat) (hc : c1 = c0 + k) (hs : s1 = s0 + m9) (hf : f_X4_init_L39 n m x0 x1 g d = some (r, g9, d9, k, m9)), XJ K 2 (Wc K T c0 s0 g d) 39 [(0, .ref x0), (1, .int x1)] [] := by
  intro m
  induction m with
  | zero => intro x0 x1 g d c0 s0 k m9 hc hs hf; cases hf
  | succ m ih =>
    intro x0 x1 g d c0 s0 k m9 hc hs hf
    rw [f_X4_init_L39] at hf
    refine x_iload_n C dX4_init_39 1 rfl ?_
    refine x_bipush (8 : Int32) C dX4_init_40 (by decide) ?_
    refine x_icmp_ge (tgt := 64) C dX4_init_42 (by decide) (fun w1 => ?_) (fun w1 => ?_)
    · have hf := pf_t w1 hf
      obtain ⟨rfl, rfl, rfl, rfl, rfl⟩ := sr_inj hf
      refine c_cs (c0 := c1) (s0 := s1) (by omega) (by omega) ?_
      exact c_vret C hrt hQ dX4_init_64
    · have hf := pf_f w1 hf
      refine x_aload_n C dX4_init_45 0 rfl ?_
      obtain ⟨t2, hf⟩ := pf_ch hf
      obtain ⟨p3, ep3, hf⟩ := pf_b hf
      refine cg4_0 C B t2 (flo C q447) fsm ep3 dX4_init_46 ?_
      refine x_iload_n C dX4_init_49 1 rfl ?_
      obtain ⟨j7, i8, ej7, ei8, hf⟩ := pf_tk hf
      refine c_new5 C B q402 dK (by omega) dX4_init_50 ?_
      obtain ⟨q4, eq4, hf⟩ := pf_e hf
      refine x_toprr eq4 ?_
      obtain ⟨da6, eda6, hf⟩ := pf_e hf
      obtain ⟨ga5, ega5, hf⟩ := pf_e hf
      rw [← eq4, ← eda6, ← ega5]
      refine x_dup C dX4_init_53 rfl ?_
      obtain ⟨r9, er9, hf⟩ := pf_b hf
      obtain ⟨j10, i11, ej10, ei11, hf⟩ := pf_tk hf
      refine k_X5_init_X4 C B dK (Nat.le_of_ble_eq_true rfl) (by omega) er9 (Nat.le_of_ble_eq_true rfl) dX4_init_54 ?_
      obtain ⟨t12, hf⟩ := pf_ch hf
      obtain ⟨h13, hf⟩ := pf_in hf
      obtain ⟨t14, hf⟩ := pf_ch hf
      refine c_ast 5 C B (by decide) t12 rfl t14 (by decide) (by decide) rfl (Or.inl rfl) h13 dX4_init_57 ?_
      obtain ⟨ga15, ega15, hf⟩ := pf_e hf
      refine c_renG ega15 ?_
      refine x_inc (c := (1 : Int32)) (L' := [(0, .ref x0), (1, .int (x1 + (1 : Int32)))]) C dX4_init_58 1 rfl (by decide) (Nat.le_of_ble_eq_true rfl) [1, 0] rfl ?_
      refine x_goto (tgt := 39) C dX4_init_61 (by decide) ?_
      exact ih x0 (x1 + (1 : Int32)) _ _ _ _ _ _ (by omega) (by omega) hf
def f_X4_init (n : Nat) (x0 : Nat) (g : CG) (d : CD) : Option (SR Unit) := if naok (8 : Int32) = true then tick 1 (Int32.toNatClampNeg (8 : Int32)) (ev (hz g) fun q2 => ev (nd d q2) fun da4 => ev (na g 105 (Int32.toNatClampNeg (8 : Int32))) fun ga3 => if ht ga3 x0 = 4 then ev (wr ga3 x0 0 (some q2)) fun ga8 => if naok (40 : Int32) = true then tick 1 (Int32.toNatClampNeg (40 : Int32)) (ev (hz ga8) fun q10 => ev (nd da4 q10) fun da12 => ev (na ga8 100 (Int32.toNatClampNeg (40 : Int32))) fun ga11 => if ht ga11 x0 = 4 then ev (wr ga11 x0 1 (some q10)) fun ga16 => if naok (8 : Int32) = true then tick 1 (Int32.toNatClampNeg (8 : Int32)) (ev (hz ga16) fun q18 => ev (nd da12 q18) fun da20 => ev (na ga16 100 (Int32.toNatClampNeg (8 : Int32))) fun ga19 => if ht ga19 x0 = 4 then ev (wr ga19 x0 2 (some q18)) fun ga24 => if naok (8 : Int32) = true then tick 1 (Int32.toNatClampNeg (8 : Int32)) (ev (hz ga24) fun q26 => ev (nd da20 q26) fun da28 => ev (na ga24 100 (Int32.toNatClampNeg (8 : Int32))) fun ga27 => if ht ga27 x0 = 4 then ev (wr ga27 x0 3 (some q26)) fun ga32 => f_X4_init_L39 n n x0 (0 : Int32) ga32 da28 else none) else none else none) else none else none) else none else none) else none
set_option maxHeartbeats 4000000 in
theorem w_X4_init_E {K : KT} {T : CT} {r : Unit} {g9 : CG} {d9 : CD} {c1 s1 : Nat} (n : Nat) (C : Kok K cX4_init 2 RX4) (B : CB K T) (hrt : (kMe K).sig.returnType = none) (hini : (kMe K).name = "<init>") (dK : kR K = rmC 4 c1 s1) (hQ : KQc K T none c1 s1 g9 d9) (x0 : Nat) (g : CG) (d : CD) (c0 s0 k m9 : Nat) (hc : c1 = c0 + k) (hs : s1 = s0 + m9) (hf : f_X4_init n x0 g d = some (r, g9, d9, k, m9)) : XJ K 2 (Wc K T c0 s0 g d) 0 [(0, .ref x0)] [] := by
  unfold f_X4_init at hf
  refine x_aload_n C dX4_init_0 0 rfl ?_
  refine c_objI C q401 dK (Nat.le_of_ble_eq_true rfl) (Nat.le_of_ble_eq_true rfl) dX4_init_1 ?_
  refine x_aload_n C dX4_init_4 0 rfl ?_
  refine x_bipush (8 : Int32) C dX4_init_5 (by decide) ?_
  obtain ⟨h1, hf⟩ := pf_ch hf
  obtain ⟨j5, i6, ej5, ei6, hf⟩ := pf_tk hf
  refine c_anew 5 C B (by decide) rfl q402 (B.2.1.1 _ (nw_ao q403 rfl)) h1 dK (by omega) dX4_init_7 ?_
  obtain ⟨q2, eq2, hf⟩ := pf_e hf
  refine x_toprr eq2 ?_
  obtain ⟨da4, eda4, hf⟩ := pf_e hf
  obtain ⟨ga3, ega3, hf⟩ := pf_e hf
  rw [← eq2, ← eda4]
  refine c_renG ega3 ?_
  obtain ⟨t7, hf⟩ := pf_ch hf
  refine cpf4_0 C B t7 q447 fsm hini dX4_init_10 ?_
  obtain ⟨ga8, ega8, hf⟩ := pf_e hf
  refine c_renG ega8 ?_
  refine x_aload_n C dX4_init_13 0 rfl ?_
  refine x_bipush (40 : Int32) C dX4_init_14 (by decide) ?_
  obtain ⟨h9, hf⟩ := pf_ch hf
  obtain ⟨j13, i14, ej13, ei14, hf⟩ := pf_tk hf
  refine c_newI C B h9 dK (by omega) dX4_init_16 ?_
  obtain ⟨q10, eq10, hf⟩ := pf_e hf
  refine x_toprr eq10 ?_
  obtain ⟨da12, eda12, hf⟩ := pf_e hf
  obtain ⟨ga11, ega11, hf⟩ := pf_e hf
  rw [← eq10, ← eda12]
  refine c_renG ega11 ?_
  obtain ⟨t15, hf⟩ := pf_ch hf
  refine cpf4_1 C B t15 q452 fsm hini dX4_init_18 ?_
  obtain ⟨ga16, ega16, hf⟩ := pf_e hf
  refine c_renG ega16 ?_
  refine x_aload_n C dX4_init_21 0 rfl ?_
  refine x_bipush (8 : Int32) C dX4_init_22 (by decide) ?_
  obtain ⟨h17, hf⟩ := pf_ch hf
  obtain ⟨j21, i22, ej21, ei22, hf⟩ := pf_tk hf
  refine c_newI C B h17 dK (by omega) dX4_init_24 ?_
  obtain ⟨q18, eq18, hf⟩ := pf_e hf
  refine x_toprr eq18 ?_
  obtain ⟨da20, eda20, hf⟩ := pf_e hf
  obtain ⟨ga19, ega19, hf⟩ := pf_e hf
  rw [← eq18, ← eda20]
  refine c_renG ega19 ?_
  obtain ⟨t23, hf⟩ := pf_ch hf
  refine cpf4_2 C B t23 q454 fsm hini dX4_init_26 ?_
  obtain ⟨ga24, ega24, hf⟩ := pf_e hf
  refine c_renG ega24 ?_
  refine x_aload_n C dX4_init_29 0 rfl ?_
  refine x_bipush (8 : Int32) C dX4_init_30 (by decide) ?_
  obtain ⟨h25, hf⟩ := pf_ch hf
  obtain ⟨j29, i30, ej29, ei30, hf⟩ := pf_tk hf
  refine c_newI C B h25 dK (by omega) dX4_init_32 ?_
  obtain ⟨q26, eq26, hf⟩ := pf_e hf
  refine x_toprr eq26 ?_
  obtain ⟨da28, eda28, hf⟩ := pf_e hf
  obtain ⟨ga27, ega27, hf⟩ := pf_e hf
  rw [← eq26, ← eda28]
  refine c_renG ega27 ?_
  obtain ⟨t31, hf⟩ := pf_ch hf
  refine cpf4_3 C B t31 q456 fsm hini dX4_init_34 ?_
  obtain ⟨ga32, ega32, hf⟩ := pf_e hf
  refine c_renG ega32 ?_
  refine x_iconst (0 : Int32) C dX4_init_37 (by decide) ?_
  refine x_istore_n (L' := [(0, .ref x0), (1, .int (0 : Int32))]) C dX4_init_38 (Nat.le_of_ble_eq_true rfl) [1, 0] rfl ?_
  exact w_X4_init_39 n C B hrt hini dK hQ n x0 (0 : Int32) _ _ _ _ _ _ (by omega) (by omega) hf
theorem met_X4_init {T : CT} {v : (SR Unit)} {n : Nat} {g : CG} {d : CD} {x0 : Nat} {l : Launch} (hf : f_X4_init n x0 g d = some v) : Met l yX4_init (ws_ yX4_init cX4_init 2 none) (rmC 4 v.2.2.2.1 v.2.2.2.2) (va_Pc [.ref x0] (CU T g d)) (Qc T none v.2.1 v.2.2.1) v.2.2.2.1 v.2.2.2.2 (cA T) :=
  c_metS [.ref x0] RX4 (by decide) rfl (Nat.le_of_ble_eq_true rfl) (fun K hl hR hrt hnm C B hQ => w_X4_init_E n C B hrt hnm hR hQ _ _ _ 0 0 _ _ (Nat.zero_add _).symm (Nat.zero_add _).symm hf)
def f_X3_init (x0 : Nat) (g : CG) (d : CD) : Option (SR Unit) := if naok (8 : Int32) = true then tick 1 (Int32.toNatClampNeg (8 : Int32)) (ev (hz g) fun q2 => ev (nd d q2) fun da4 => ev (na g 101 (Int32.toNatClampNeg (8 : Int32))) fun ga3 => if ht ga3 x0 = 3 then ev (wr ga3 x0 0 (some q2)) fun ga8 => if naok (5 : Int32) = true then tick 1 (Int32.toNatClampNeg (5 : Int32)) (ev (hz ga8) fun q10 => ev (nd da4 q10) fun da12 => ev (na ga8 101 (Int32.toNatClampNeg (5 : Int32))) fun ga11 => if ht ga11 x0 = 3 then ev (wr ga11 x0 1 (some q10)) fun ga16 => if naok (8 : Int32) = true then tick 1 (Int32.toNatClampNeg (8 : Int32)) (ev (hz ga16) fun q18 => ev (nd da12 q18) fun da20 => ev (na ga16 101 (Int32.toNatClampNeg (8 : Int32))) fun ga19 => if ht ga19 x0 = 3 then ev (wr ga19 x0 2 (some q18)) fun ga24 => if naok (8 : Int32) = true then tick 1 (Int32.toNatClampNeg (8 : Int32)) (ev (hz ga24) fun q26 => ev (nd da20 q26) fun da28 => ev (na ga24 101 (Int32.toNatClampNeg (8 : Int32))) fun ga27 => if ht ga27 x0 = 3 then ev (wr ga27 x0 3 (some q26)) fun ga32 => if naok (8 : Int32) = true then tick 1 (Int32.toNatClampNeg (8 : Int32)) (ev (hz ga32) fun q34 => ev (nd da28 q34) fun da36 => ev (na ga32 100 (Int32.toNatClampNeg (8 : Int32))) fun ga35 => if ht ga35 x0 = 3 then ev (wr ga35 x0 4 (some q34)) fun ga40 => if naok (8 : Int32) = true then tick 1 (Int32.toNatClampNeg (8 : Int32)) (ev (hz ga40) fun q42 => ev (nd da36 q42) fun da44 => ev (na ga40 100 (Int32.toNatClampNeg (8 : Int32))) fun ga43 => if ht ga43 x0 = 3 then ev (wr ga43 x0 5 (some q42)) fun ga48 => if naok (8 : Int32) = true then tick 1 (Int32.toNatClampNeg (8 : Int32)) (ev (hz ga48) fun q50 => ev (nd da44 q50) fun da52 => ev (na ga48 100 (Int32.toNatClampNeg (8 : Int32))) fun ga51 => if ht ga51 x0 = 3 then ev (wr ga51 x0 6 (some q50)) fun ga56 => if naok (8 : Int32) = true then tick 1 (Int32.toNatClampNeg (8 : Int32)) (ev (hz ga56) fun q58 => ev (nd da52 q58) fun da60 => ev (na ga56 100 (Int32.toNatClampNeg (8 : Int32))) fun ga59 => if ht ga59 x0 = 3 then ev (wr ga59 x0 7 (some q58)) fun ga64 => if naok (8 : Int32) = true then tick 1 (Int32.toNatClampNeg (8 : Int32)) (ev (hz ga64) fun q66 => ev (nd da60 q66) fun da68 => ev (na ga64 100 (Int32.toNatClampNeg (8 : Int32))) fun ga67 => if ht ga67 x0 = 3 then ev (wr ga67 x0 8 (some q66)) fun ga72 => if naok (8 : Int32) = true then tick 1 (Int32.toNatClampNeg (8 : Int32)) (ev (hz ga72) fun q74 => ev (nd da68 q74) fun da76 => ev (na ga72 100 (Int32.toNatClampNeg (8 : Int32))) fun ga75 => if ht ga75 x0 = 3 then ev (wr ga75 x0 9 (some q74)) fun ga80 => if naok (8 : Int32) = true then tick 1 (Int32.toNatClampNeg (8 : Int32)) (ev (hz ga80) fun q82 => ev (nd da76 q82) fun da84 => ev (na ga80 100 (Int32.toNatClampNeg (8 : Int32))) fun ga83 => if ht ga83 x0 = 3 then ev (wr ga83 x0 10 (some q82)) fun ga88 => if naok (8 : Int32) = true then tick 1 (Int32.toNatClampNeg (8 : Int32)) (ev (hz ga88) fun q90 => ev (nd da84 q90) fun da92 => ev (na ga88 100 (Int32.toNatClampNeg (8 : Int32))) fun ga91 => if ht ga91 x0 = 3 then ev (wr ga91 x0 11 (some q90)) fun ga96 => if naok (8 : Int32) = true then tick 1 (Int32.toNatClampNeg (8 : Int32)) (ev (hz ga96) fun q98 => ev (nd da92 q98) fun da100 => ev (na ga96 100 (Int32.toNatClampNeg (8 : Int32))) fun ga99 => if ht ga99 x0 = 3 then ev (wr ga99 x0 12 (some q98)) fun ga104 => if naok (8 : Int32) = true then tick 1 (Int32.toNatClampNeg (8 : Int32)) (ev (hz ga104) fun q106 => ev (nd da100 q106) fun da108 => ev (na ga104 100 (Int32.toNatClampNeg (8 : Int32))) fun ga107 => if ht ga107 x0 = 3 then ev (wr ga107 x0 13 (some q106)) fun ga112 => if naok (40 : Int32) = true then tick 1 (Int32.toNatClampNeg (40 : Int32)) (ev (hz ga112) fun q114 => ev (nd da108 q114) fun da116 => ev (na ga112 100 (Int32.toNatClampNeg (40 : Int32))) fun ga115 => if ht ga115 x0 = 3 then ev (wr ga115 x0 14 (some q114)) fun ga120 => if naok (8 : Int32) = true then tick 1 (Int32.toNatClampNeg (8 : Int32)) (ev (hz ga120) fun q122 => ev (nd da116 q122) fun da124 => ev (na ga120 108 (Int32.toNatClampNeg (8 : Int32))) fun ga123 => if ht ga123 x0 = 3 then ev (wr ga123 x0 15 (some q122)) fun ga128 => if naok (40 : Int32) = true then tick 1 (Int32.toNatClampNeg (40 : Int32)) (ev (hz ga128) fun q130 => ev (nd da124 q130) fun da132 => ev (na ga128 102 (Int32.toNatClampNeg (40 : Int32))) fun ga131 => if ht ga131 x0 = 3 then ev (wr ga131 x0 16 (some q130)) fun ga136 => if ht ga136 x0 = 3 then ev (wi da132 x0 22 (3 : Int32)) fun da138 => some ((), ga136, da138, 0, 0) else none else none) else none else none) else none else none) else none else none) else none else none) else none else none) else none else none) else none else none) else none else none) else none else none) else none else none) else none else none) else none else none) else none else none) else none else none) else none else none) else none else none) else none
set_option maxHeartbeats 4000000 in
theorem w_X3_init_E {K : KT} {T : CT} {r : Unit} {g9 : CG} {d9 : CD} {c1 s1 : Nat} (C : Kok K cX3_init 1 RX3) (B : CB K T) (hrt : (kMe K).sig.returnType = none) (hini : (kMe K).name = "<init>") (dK : kR K = rmC 3 c1 s1) (hQ : KQc K T none c1 s1 g9 d9) (x0 : Nat) (g : CG) (d : CD) (c0 s0 k m9 : Nat) (hc : c1 = c0 + k) (hs : s1 = s0 + m9) (hf : f_X3_init x0 g d = some (r, g9, d9, k, m9)) : XJ K 1 (Wc K T c0 s0 g d) 0 [(0, .ref x0)] [] := by
  unfold f_X3_init at hf
  refine x_aload_n C dX3_init_0 0 rfl ?_
  refine c_objI C q264 dK (Nat.le_of_ble_eq_true rfl) (Nat.le_of_ble_eq_true rfl) dX3_init_1 ?_
  refine x_aload_n C dX3_init_4 0 rfl ?_
  refine x_bipush (8 : Int32) C dX3_init_5 (by decide) ?_
  obtain ⟨h1, hf⟩ := pf_ch hf
  obtain ⟨j5, i6, ej5, ei6, hf⟩ := pf_tk hf
  refine c_newJ C B h1 dK (by omega) dX3_init_7 ?_
  obtain ⟨q2, eq2, hf⟩ := pf_e hf
  refine x_toprr eq2 ?_
  obtain ⟨da4, eda4, hf⟩ := pf_e hf
  obtain ⟨ga3, ega3, hf⟩ := pf_e hf
  rw [← eq2, ← eda4]
  refine c_renG ega3 ?_
  obtain ⟨t7, hf⟩ := pf_ch hf
  refine cpf3_0 C B t7 q267 fsm hini dX3_init_9 ?_
  obtain ⟨ga8, ega8, hf⟩ := pf_e hf
  refine c_renG ega8 ?_
  refine x_aload_n C dX3_init_12 0 rfl ?_
  refine x_iconst (5 : Int32) C dX3_init_13 (by decide) ?_
  obtain ⟨h9, hf⟩ := pf_ch hf
  obtain ⟨j13, i14, ej13, ei14, hf⟩ := pf_tk hf
  refine c_newJ C B h9 dK (by omega) dX3_init_14 ?_
  obtain ⟨q10, eq10, hf⟩ := pf_e hf
  refine x_toprr eq10 ?_
  obtain ⟨da12, eda12, hf⟩ := pf_e hf
  obtain ⟨ga11, ega11, hf⟩ := pf_e hf
  rw [← eq10, ← eda12]
  refine c_renG ega11 ?_
  obtain ⟨t15, hf⟩ := pf_ch hf
  refine cpf3_1 C B t15 q272 fsm hini dX3_init_16 ?_
  obtain ⟨ga16, ega16, hf⟩ := pf_e hf
  refine c_renG ega16 ?_
  refine x_aload_n C dX3_init_19 0 rfl ?_
  refine x_bipush (8 : Int32) C dX3_init_20 (by decide) ?_
  obtain ⟨h17, hf⟩ := pf_ch hf
  obtain ⟨j21, i22, ej21, ei22, hf⟩ := pf_tk hf
  refine c_newJ C B h17 dK (by omega) dX3_init_22 ?_
  obtain ⟨q18, eq18, hf⟩ := pf_e hf
  refine x_toprr eq18 ?_
  obtain ⟨da20, eda20, hf⟩ := pf_e hf
  obtain ⟨ga19, ega19, hf⟩ := pf_e hf
  rw [← eq18, ← eda20]
  refine c_renG ega19 ?_
  obtain ⟨t23, hf⟩ := pf_ch hf
  refine cpf3_2 C B t23 q276 fsm hini dX3_init_24 ?_
  obtain ⟨ga24, ega24, hf⟩ := pf_e hf
  refine c_renG ega24 ?_
  refine x_aload_n C dX3_init_27 0 rfl ?_
  refine x_bipush (8 : Int32) C dX3_init_28 (by decide) ?_
  obtain ⟨h25, hf⟩ := pf_ch hf
  obtain ⟨j29, i30, ej29, ei30, hf⟩ := pf_tk hf
  refine c_newJ C B h25 dK (by omega) dX3_init_30 ?_
  obtain ⟨q26, eq26, hf⟩ := pf_e hf
  refine x_toprr eq26 ?_
  obtain ⟨da28, eda28, hf⟩ := pf_e hf
  obtain ⟨ga27, ega27, hf⟩ := pf_e hf
  rw [← eq26, ← eda28]
  refine c_renG ega27 ?_
  obtain ⟨t31, hf⟩ := pf_ch hf
  refine cpf3_3 C B t31 q280 fsm hini dX3_init_32 ?_
  obtain ⟨ga32, ega32, hf⟩ := pf_e hf
  refine c_renG ega32 ?_
  refine x_aload_n C dX3_init_35 0 rfl ?_
  refine x_bipush (8 : Int32) C dX3_init_36 (by decide) ?_
  obtain ⟨h33, hf⟩ := pf_ch hf
  obtain ⟨j37, i38, ej37, ei38, hf⟩ := pf_tk hf
  refine c_newI C B h33 dK (by omega) dX3_init_38 ?_
  obtain ⟨q34, eq34, hf⟩ := pf_e hf
  refine x_toprr eq34 ?_
  obtain ⟨da36, eda36, hf⟩ := pf_e hf
  obtain ⟨ga35, ega35, hf⟩ := pf_e hf
  rw [← eq34, ← eda36]
  refine c_renG ega35 ?_
  obtain ⟨t39, hf⟩ := pf_ch hf
  refine cpf3_4 C B t39 q282 fsm hini dX3_init_40 ?_
  obtain ⟨ga40, ega40, hf⟩ := pf_e hf
  refine c_renG ega40 ?_
  refine x_aload_n C dX3_init_43 0 rfl ?_
  refine x_bipush (8 : Int32) C dX3_init_44 (by decide) ?_
  obtain ⟨h41, hf⟩ := pf_ch hf
  obtain ⟨j45, i46, ej45, ei46, hf⟩ := pf_tk hf
  refine c_newI C B h41 dK (by omega) dX3_init_46 ?_
  obtain ⟨q42, eq42, hf⟩ := pf_e hf
  refine x_toprr eq42 ?_
  obtain ⟨da44, eda44, hf⟩ := pf_e hf
  obtain ⟨ga43, ega43, hf⟩ := pf_e hf
  rw [← eq42, ← eda44]
  refine c_renG ega43 ?_
  obtain ⟨t47, hf⟩ := pf_ch hf
  refine cpf3_5 C B t47 q286 fsm hini dX3_init_48 ?_
  obtain ⟨ga48, ega48, hf⟩ := pf_e hf
  refine c_renG ega48 ?_
  refine x_aload_n C dX3_init_51 0 rfl ?_
  refine x_bipush (8 : Int32) C dX3_init_52 (by decide) ?_
  obtain ⟨h49, hf⟩ := pf_ch hf
  obtain ⟨j53, i54, ej53, ei54, hf⟩ := pf_tk hf
  refine c_newI C B h49 dK (by omega) dX3_init_54 ?_
  obtain ⟨q50, eq50, hf⟩ := pf_e hf
  refine x_toprr eq50 ?_
  obtain ⟨da52, eda52, hf⟩ := pf_e hf
  obtain ⟨ga51, ega51, hf⟩ := pf_e hf
  rw [← eq50, ← eda52]
  refine c_renG ega51 ?_
  obtain ⟨t55, hf⟩ := pf_ch hf
  refine cpf3_6 C B t55 q289 fsm hini dX3_init_56 ?_
  obtain ⟨ga56, ega56, hf⟩ := pf_e hf
  refine c_renG ega56 ?_
  refine x_aload_n C dX3_init_59 0 rfl ?_
  refine x_bipush (8 : Int32) C dX3_init_60 (by decide) ?_
  obtain ⟨h57, hf⟩ := pf_ch hf
  obtain ⟨j61, i62, ej61, ei62, hf⟩ := pf_tk hf
  refine c_newI C B h57 dK (by omega) dX3_init_62 ?_
  obtain ⟨q58, eq58, hf⟩ := pf_e hf
  refine x_toprr eq58 ?_
  obtain ⟨da60, eda60, hf⟩ := pf_e hf
  obtain ⟨ga59, ega59, hf⟩ := pf_e hf
  rw [← eq58, ← eda60]
  refine c_renG ega59 ?_
  obtain ⟨t63, hf⟩ := pf_ch hf
  refine cpf3_7 C B t63 q292 fsm hini dX3_init_64 ?_
  obtain ⟨ga64, ega64, hf⟩ := pf_e hf
  refine c_renG ega64 ?_
  refine x_aload_n C dX3_init_67 0 rfl ?_
  refine x_bipush (8 : Int32) C dX3_init_68 (by decide) ?_
  obtain ⟨h65, hf⟩ := pf_ch hf
  obtain ⟨j69, i70, ej69, ei70, hf⟩ := pf_tk hf
  refine c_newI C B h65 dK (by omega) dX3_init_70 ?_
  obtain ⟨q66, eq66, hf⟩ := pf_e hf
  refine x_toprr eq66 ?_
  obtain ⟨da68, eda68, hf⟩ := pf_e hf
  obtain ⟨ga67, ega67, hf⟩ := pf_e hf
  rw [← eq66, ← eda68]
  refine c_renG ega67 ?_
  obtain ⟨t71, hf⟩ := pf_ch hf
  refine cpf3_8 C B t71 q295 fsm hini dX3_init_72 ?_
  obtain ⟨ga72, ega72, hf⟩ := pf_e hf
  refine c_renG ega72 ?_
  refine x_aload_n C dX3_init_75 0 rfl ?_
  refine x_bipush (8 : Int32) C dX3_init_76 (by decide) ?_
  obtain ⟨h73, hf⟩ := pf_ch hf
  obtain ⟨j77, i78, ej77, ei78, hf⟩ := pf_tk hf
  refine c_newI C B h73 dK (by omega) dX3_init_78 ?_
  obtain ⟨q74, eq74, hf⟩ := pf_e hf
  refine x_toprr eq74 ?_
  obtain ⟨da76, eda76, hf⟩ := pf_e hf
  obtain ⟨ga75, ega75, hf⟩ := pf_e hf
  rw [← eq74, ← eda76]
  refine c_renG ega75 ?_
  obtain ⟨t79, hf⟩ := pf_ch hf
  refine cpf3_9 C B t79 q298 fsm hini dX3_init_80 ?_
  obtain ⟨ga80, ega80, hf⟩ := pf_e hf
  refine c_renG ega80 ?_
  refine x_aload_n C dX3_init_83 0 rfl ?_
  refine x_bipush (8 : Int32) C dX3_init_84 (by decide) ?_
  obtain ⟨h81, hf⟩ := pf_ch hf
  obtain ⟨j85, i86, ej85, ei86, hf⟩ := pf_tk hf
  refine c_newI C B h81 dK (by omega) dX3_init_86 ?_
  obtain ⟨q82, eq82, hf⟩ := pf_e hf
  refine x_toprr eq82 ?_
  obtain ⟨da84, eda84, hf⟩ := pf_e hf
  obtain ⟨ga83, ega83, hf⟩ := pf_e hf
  rw [← eq82, ← eda84]
  refine c_renG ega83 ?_
  obtain ⟨t87, hf⟩ := pf_ch hf
  refine cpf3_10 C B t87 q301 fsm hini dX3_init_88 ?_
  obtain ⟨ga88, ega88, hf⟩ := pf_e hf
  refine c_renG ega88 ?_
  refine x_aload_n C dX3_init_91 0 rfl ?_
  refine x_bipush (8 : Int32) C dX3_init_92 (by decide) ?_
  obtain ⟨h89, hf⟩ := pf_ch hf
  obtain ⟨j93, i94, ej93, ei94, hf⟩ := pf_tk hf
  refine c_newI C B h89 dK (by omega) dX3_init_94 ?_
  obtain ⟨q90, eq90, hf⟩ := pf_e hf
  refine x_toprr eq90 ?_
  obtain ⟨da92, eda92, hf⟩ := pf_e hf
  obtain ⟨ga91, ega91, hf⟩ := pf_e hf
  rw [← eq90, ← eda92]
  refine c_renG ega91 ?_
  obtain ⟨t95, hf⟩ := pf_ch hf
  refine cpf3_11 C B t95 q304 fsm hini dX3_init_96 ?_
  obtain ⟨ga96, ega96, hf⟩ := pf_e hf
  refine c_renG ega96 ?_
  refine x_aload_n C dX3_init_99 0 rfl ?_
  refine x_bipush (8 : Int32) C dX3_init_100 (by decide) ?_
  obtain ⟨h97, hf⟩ := pf_ch hf
  obtain ⟨j101, i102, ej101, ei102, hf⟩ := pf_tk hf
  refine c_newI C B h97 dK (by omega) dX3_init_102 ?_
  obtain ⟨q98, eq98, hf⟩ := pf_e hf
  refine x_toprr eq98 ?_
  obtain ⟨da100, eda100, hf⟩ := pf_e hf
  obtain ⟨ga99, ega99, hf⟩ := pf_e hf
  rw [← eq98, ← eda100]
  refine c_renG ega99 ?_
  obtain ⟨t103, hf⟩ := pf_ch hf
  refine cpf3_12 C B t103 q307 fsm hini dX3_init_104 ?_
  obtain ⟨ga104, ega104, hf⟩ := pf_e hf
  refine c_renG ega104 ?_
  refine x_aload_n C dX3_init_107 0 rfl ?_
  refine x_bipush (8 : Int32) C dX3_init_108 (by decide) ?_
  obtain ⟨h105, hf⟩ := pf_ch hf
  obtain ⟨j109, i110, ej109, ei110, hf⟩ := pf_tk hf
  refine c_newI C B h105 dK (by omega) dX3_init_110 ?_
  obtain ⟨q106, eq106, hf⟩ := pf_e hf
  refine x_toprr eq106 ?_
  obtain ⟨da108, eda108, hf⟩ := pf_e hf
  obtain ⟨ga107, ega107, hf⟩ := pf_e hf
  rw [← eq106, ← eda108]
  refine c_renG ega107 ?_
  obtain ⟨t111, hf⟩ := pf_ch hf
  refine cpf3_13 C B t111 q311 fsm hini dX3_init_112 ?_
  obtain ⟨ga112, ega112, hf⟩ := pf_e hf
  refine c_renG ega112 ?_
  refine x_aload_n C dX3_init_115 0 rfl ?_
  refine x_bipush (40 : Int32) C dX3_init_116 (by decide) ?_
  obtain ⟨h113, hf⟩ := pf_ch hf
  obtain ⟨j117, i118, ej117, ei118, hf⟩ := pf_tk hf
  refine c_newI C B h113 dK (by omega) dX3_init_118 ?_
  obtain ⟨q114, eq114, hf⟩ := pf_e hf
  refine x_toprr eq114 ?_
  obtain ⟨da116, eda116, hf⟩ := pf_e hf
  obtain ⟨ga115, ega115, hf⟩ := pf_e hf
  rw [← eq114, ← eda116]
  refine c_renG ega115 ?_
  obtain ⟨t119, hf⟩ := pf_ch hf
  refine cpf3_14 C B t119 q315 fsm hini dX3_init_120 ?_
  obtain ⟨ga120, ega120, hf⟩ := pf_e hf
  refine c_renG ega120 ?_
  refine x_aload_n C dX3_init_123 0 rfl ?_
  refine x_bipush (8 : Int32) C dX3_init_124 (by decide) ?_
  obtain ⟨h121, hf⟩ := pf_ch hf
  obtain ⟨j125, i126, ej125, ei126, hf⟩ := pf_tk hf
  refine c_anewA C B q265 h121 dK (by omega) dX3_init_126 ?_
  obtain ⟨q122, eq122, hf⟩ := pf_e hf
  refine x_toprr eq122 ?_
  obtain ⟨da124, eda124, hf⟩ := pf_e hf
  obtain ⟨ga123, ega123, hf⟩ := pf_e hf
  rw [← eq122, ← eda124]
  refine c_renG ega123 ?_
  obtain ⟨t127, hf⟩ := pf_ch hf
  refine cpf3_15 C B t127 q317 fsm hini dX3_init_129 ?_
  obtain ⟨ga128, ega128, hf⟩ := pf_e hf
  refine c_renG ega128 ?_
  refine x_aload_n C dX3_init_132 0 rfl ?_
  refine x_bipush (40 : Int32) C dX3_init_133 (by decide) ?_
  obtain ⟨h129, hf⟩ := pf_ch hf
  obtain ⟨j133, i134, ej133, ei134, hf⟩ := pf_tk hf
  refine c_newZ C B h129 dK (by omega) dX3_init_135 ?_
  obtain ⟨q130, eq130, hf⟩ := pf_e hf
  refine x_toprr eq130 ?_
  obtain ⟨da132, eda132, hf⟩ := pf_e hf
  obtain ⟨ga131, ega131, hf⟩ := pf_e hf
  rw [← eq130, ← eda132]
  refine c_renG ega131 ?_
  obtain ⟨t135, hf⟩ := pf_ch hf
  refine cpf3_16 C B t135 q320 fsm hini dX3_init_137 ?_
  obtain ⟨ga136, ega136, hf⟩ := pf_e hf
  refine c_renG ega136 ?_
  refine x_aload_n C dX3_init_140 0 rfl ?_
  refine x_iconst (3 : Int32) C dX3_init_141 (by decide) ?_
  obtain ⟨t137, hf⟩ := pf_ch hf
  refine cp3_22 C B t137 (flo C q342) fsm dX3_init_142 ?_
  obtain ⟨da138, eda138, hf⟩ := pf_e hf
  refine c_ren eda138 ?_
  obtain ⟨rfl, rfl, rfl, rfl, rfl⟩ := sr_inj hf
  refine c_cs (c0 := c1) (s0 := s1) (by omega) (by omega) ?_
  exact c_vret C hrt hQ dX3_init_145
theorem met_X3_init {T : CT} {v : (SR Unit)} {g : CG} {d : CD} {x0 : Nat} {l : Launch} (hf : f_X3_init x0 g d = some v) : Met l yX3_init (ws_ yX3_init cX3_init 1 none) (rmC 3 v.2.2.2.1 v.2.2.2.2) (va_Pc [.ref x0] (CU T g d)) (Qc T none v.2.1 v.2.2.1) v.2.2.2.1 v.2.2.2.2 (cA T) :=
  c_metS [.ref x0] RX3 (by decide) rfl (Nat.le_of_ble_eq_true rfl) (fun K hl hR hrt hnm C B hQ => w_X3_init_E C B hrt hnm hR hQ _ _ _ 0 0 _ _ (Nat.zero_add _).symm (Nat.zero_add _).symm hf)
theorem k_X4_init_X22 {K : KT} {T : CT} {c0 s0 c1 s1 dk : Nat} {cc : ByteArray} {nL pc : Nat} {L : List (Nat × Value)} {rest : List Value} {g : CG} {d : CD} {v : (SR Unit)} {n : Nat} {x0 : Nat} (C : Kok K cc nL RX22) (B : CB K T) (dK : kR K = rmC dk c1 s1) (hd : 4 + 1 ≤ dk) (hcs : c0 + v.2.2.2.1 ≤ c1 ∧ s0 + v.2.2.2.2 ≤ s1) (hf : f_X4_init n x0 g d = some v) (hW : (rest.map fun v => v.category).sum ≤ 8) (dd : decode cc pc = .ok (.invokespecial 9, 3)) (kk2 : XJ K nL (Wc K T (c0 + v.2.2.2.1) (s0 + v.2.2.2.2) v.2.1 v.2.2.1) (pc + 3) L (rest)) : XJ K nL (Wc K T c0 s0 g d) pc L (.ref x0 :: rest) := by
  exact c_callI (rest := rest) (v := none) [] 0 rfl C B dK hd (Nat.le_of_ble_eq_true rfl) hcs q400 q1685 q399 q126 rfl (by decide +kernel) (met_X4_init hf) rfl hW dd kk2
def f_X22_init (n : Nat) (x0 : Nat) (g : CG) (d : CD) : Option (SR Unit) := tick 1 7 (ev (hz g) fun q1 => ev (nd d q1) fun da3 => ev (na g 4 0) fun ga2 => (f_X4_init n q1 ga2 da3).bind fun r6 => tick r6.2.2.2.1 r6.2.2.2.2 (if ht r6.2.1 x0 = 19 then ev (wr r6.2.1 x0 1 (some q1)) fun ga10 => some ((), ga10, r6.2.2.1, 0, 0) else none))
set_option maxHeartbeats 4000000 in
theorem w_X22_init_E {K : KT} {T : CT} {r : Unit} {g9 : CG} {d9 : CD} {c1 s1 : Nat} (n : Nat) (C : Kok K cX22_init 1 RX22) (B : CB K T) (hrt : (kMe K).sig.returnType = none) (hini : (kMe K).name = "<init>") (dK : kR K = rmC 5 c1 s1) (hQ : KQc K T none c1 s1 g9 d9) (x0 : Nat) (g : CG) (d : CD) (c0 s0 k m9 : Nat) (hc : c1 = c0 + k) (hs : s1 = s0 + m9) (hf : f_X22_init n x0 g d = some (r, g9, d9, k, m9)) : XJ K 1 (Wc K T c0 s0 g d) 0 [(0, .ref x0)] [] := by
  unfold f_X22_init at hf
  refine x_aload_n C dX22_init_0 0 rfl ?_
  refine c_objI C q1683 dK (Nat.le_of_ble_eq_true rfl) (Nat.le_of_ble_eq_true rfl) dX22_init_1 ?_
  refine x_aload_n C dX22_init_4 0 rfl ?_
  obtain ⟨j4, i5, ej4, ei5, hf⟩ := pf_tk hf
  refine c_new4 C B q1684 dK (by omega) dX22_init_5 ?_
  obtain ⟨q1, eq1, hf⟩ := pf_e hf
  refine x_toprr eq1 ?_
  obtain ⟨da3, eda3, hf⟩ := pf_e hf
  obtain ⟨ga2, ega2, hf⟩ := pf_e hf
  rw [← eq1, ← eda3, ← ega2]
  refine x_dup C dX22_init_8 rfl ?_
  obtain ⟨r6, er6, hf⟩ := pf_b hf
  obtain ⟨j7, i8, ej7, ei8, hf⟩ := pf_tk hf
  refine k_X4_init_X22 C B dK (Nat.le_of_ble_eq_true rfl) (by omega) er6 (Nat.le_of_ble_eq_true rfl) dX22_init_9 ?_
  obtain ⟨t9, hf⟩ := pf_ch hf
  refine cpf19_1 C B t9 q1687 fsm hini dX22_init_12 ?_
  obtain ⟨ga10, ega10, hf⟩ := pf_e hf
  refine c_renG ega10 ?_
  obtain ⟨rfl, rfl, rfl, rfl, rfl⟩ := sr_inj hf
  refine c_cs (c0 := c1) (s0 := s1) (by omega) (by omega) ?_
  exact c_vret C hrt hQ dX22_init_15
theorem met_X22_init {T : CT} {v : (SR Unit)} {n : Nat} {g : CG} {d : CD} {x0 : Nat} {l : Launch} (hf : f_X22_init n x0 g d = some v) : Met l yX22_init (ws_ yX22_init cX22_init 1 none) (rmC 5 v.2.2.2.1 v.2.2.2.2) (va_Pc [.ref x0] (CU T g d)) (Qc T none v.2.1 v.2.2.1) v.2.2.2.1 v.2.2.2.2 (cA T) :=
  c_metS [.ref x0] RX22 (by decide) rfl (Nat.le_of_ble_eq_true rfl) (fun K hl hR hrt hnm C B hQ => w_X22_init_E n C B hrt hnm hR hQ _ _ _ 0 0 _ _ (Nat.zero_add _).symm (Nat.zero_add _).symm hf)
def f_X3_wayOf_L74 (n : Nat) (k40 : Nat → Int32 → Nat → Int32 → CG → CD → Option (SR Nat)) (k50 : Nat → Int32 → Nat → Int32 → Int32 → CG → CD → Option (SR Nat)) : Nat → Nat → Int32 → Nat → Int32 → Int32 → Int32 → CG → CD → Option (SR Nat)
  | 0, _, _, _, _, _, _, _, _ => none
  | m + 1, x0, x1, x3, x4, x5, x6, g, d => if ht g x0 = 3 then if (hi d x0 17) ≤ x6 then (k50 x0 x1 x3 x4 (x5 + (1 : Int32)) g d) else ((hr g x0 5).bind fun p3 => if ht g p3 = 100 then if inb x5 (hn g p3) = true then if (f_X1_has (hi d p3 (Int32.toNatClampNeg x5)) x6) = 0 then (f_X3_wayOf_L74 n k40 k50 m x0 x1 x3 x4 x5 (x6 + (1 : Int32)) g d) else (if ht g x3 = 100 then if inb x6 (hn g x3) = true then if (hi d x3 (Int32.toNatClampNeg x6)) = (x4 - (1 : Int32)) then (if inb x5 (hn g x3) = true then ev (wi d x3 (Int32.toNatClampNeg x5) x4) fun da11 => f_X3_wayOf_L74 n k40 k50 m x0 x1 x3 x4 x5 (x6 + (1 : Int32)) g da11 else none) else (f_X3_wayOf_L74 n k40 k50 m x0 x1 x3 x4 x5 (x6 + (1 : Int32)) g d) else none else none) else none else none) else none
set_option maxHeartbeats 4000000 in
theorem w_X3_wayOf_74 {K : KT} {T : CT} {r : Nat} {g9 : CG} {d9 : CD} {c1 s1 : Nat} (n : Nat) (k40 : Nat → Int32 → Nat → Int32 → CG → CD → Option (SR Nat)) (k50 : Nat → Int32 → Nat → Int32 → Int32 → CG → CD → Option (SR Nat)) (C : Kok K cX3_wayOf 7 RX3) (B : CB K T) (hrt : (kMe K).sig.returnType = (some (.array .int))) (dK : kR K = rmC 3 c1 s1) (hQ : KQc K T (some (.ref r)) c1 s1 g9 d9)  (hk40 : ∀ (x0 : Nat) (x1 : Int32) (x3 : Nat) (x4 : Int32) (g : CG) (d : CD) (c0 s0 k m9 : Nat), c1 = c0 + k → s1 = s0 + m9 → k40 x0 x1 x3 x4 g d = some (r, g9, d9, k, m9) → XJ K 7 (Wc K T c0 s0 g d) 40 [(0, .ref x0), (1, .int x1), (3, .ref x3), (4, .int x4)] []) (hk50 : ∀ (x0 : Nat) (x1 : Int32) (x3 : Nat) (x4 : Int32) (x5 : Int32) (g : CG) (d : CD) (c0 s0 k m9 : Nat), c1 = c0 + k → s1 = s0 + m9 → k50 x0 x1 x3 x4 x5 g d = some (r, g9, d9, k, m9) → XJ K 7 (Wc K T c0 s0 g d) 50 [(0, .ref x0), (1, .int x1), (3, .ref x3), (4, .int x4), (5, .int x5)] []) : ∀ (m : Nat) (x0 : Nat) (x1 : Int32) (x3 : Nat) (x4 : Int32) (x5 : Int32) (x6 : Int32) (g : CG) (d : CD) (c0 s0 k m9 : Nat) (hc : c1 = c0 + k) (hs : s1 = s0 + m9) (hf : f_X3_wayOf_L74 n k40 k50 m x0 x1 x3 x4 x5 x6 g d = some (r, g9, d9, k, m9)), XJ K 7 (Wc K T c0 s0 g d) 74 [(0, .ref x0), (1, .int x1), (3, .ref x3), (4, .int x4), (5, .int x5), (6, .int x6)] [] := by
  intro m
  induction m with
  | zero => intro x0 x1 x3 x4 x5 x6 g d c0 s0 k m9 hc hs hf; cases hf
  | succ m ih =>
    intro x0 x1 x3 x4 x5 x6 g d c0 s0 k m9 hc hs hf
    rw [f_X3_wayOf_L74] at hf
    refine x_iload C dX3_wayOf_74 5 rfl ?_
    refine x_aload_n C dX3_wayOf_76 0 rfl ?_
    obtain ⟨t1, hf⟩ := pf_ch hf
    refine cg3_17 C B t1 (flo C q322) fsm dX3_wayOf_77 ?_
    refine x_icmp_ge (tgt := 121) C dX3_wayOf_80 (by decide) (fun w2 => ?_) (fun w2 => ?_)
    · have hf := pf_t w2 hf
      refine x_inc (c := (1 : Int32)) (L' := [(0, .ref x0), (1, .int x1), (3, .ref x3), (4, .int x4), (5, .int (x5 + (1 : Int32)))]) C dX3_wayOf_121 4 rfl (by decide) (Nat.le_of_ble_eq_true rfl) [1, 2, 3, 4, 0] rfl ?_
      refine x_goto (tgt := 50) C dX3_wayOf_124 (by decide) ?_
      exact hk50 x0 x1 x3 x4 (x5 + (1 : Int32)) _ _ _ _ _ _ (by omega) (by omega) hf
    · have hf := pf_f w2 hf
      refine x_aload_n C dX3_wayOf_83 0 rfl ?_
      obtain ⟨p3, ep3, hf⟩ := pf_b hf
      refine cg3_5 C B t1 (flo C q286) fsm ep3 dX3_wayOf_84 ?_
      refine x_iload C dX3_wayOf_87 4 rfl ?_
      obtain ⟨t4, hf⟩ := pf_ch hf
      obtain ⟨h5, hf⟩ := pf_in hf
      refine ca_ild C B t4 h5 dX3_wayOf_89 ?_
      refine x_iload C dX3_wayOf_90 5 rfl ?_
      refine k_X1_has_X3 C B dK (Nat.le_of_ble_eq_true rfl) (by omega) rfl (Nat.le_of_ble_eq_true rfl) dX3_wayOf_92 ?_
      refine x_if_eq (tgt := 115) C dX3_wayOf_95 (by decide) (fun w6 => ?_) (fun w6 => ?_)
      · have hf := pf_t w6 hf
        refine x_inc (c := (1 : Int32)) (L' := [(0, .ref x0), (1, .int x1), (3, .ref x3), (4, .int x4), (5, .int x5), (6, .int (x6 + (1 : Int32)))]) C dX3_wayOf_115 5 rfl (by decide) (Nat.le_of_ble_eq_true rfl) [1, 2, 3, 4, 5, 0] rfl ?_
        refine x_goto (tgt := 74) C dX3_wayOf_118 (by decide) ?_
        exact ih x0 x1 x3 x4 x5 (x6 + (1 : Int32)) _ _ _ _ _ _ (by omega) (by omega) hf
      · have hf := pf_f w6 hf
        refine x_aload_n C dX3_wayOf_98 2 rfl ?_
        refine x_iload C dX3_wayOf_99 5 rfl ?_
        obtain ⟨t7, hf⟩ := pf_ch hf
        obtain ⟨h8, hf⟩ := pf_in hf
        refine ca_ild C B t7 h8 dX3_wayOf_101 ?_
        refine x_iload C dX3_wayOf_102 3 rfl ?_
        refine x_iconst (1 : Int32) C dX3_wayOf_104 (by decide) ?_
        refine x_isub C dX3_wayOf_105 ?_
        refine x_icmp_ne (tgt := 115) C dX3_wayOf_106 (by decide) (fun w9 => ?_) (fun w9 => ?_)
        · have hf := pf_f w9 hf
          refine x_inc (c := (1 : Int32)) (L' := [(0, .ref x0), (1, .int x1), (3, .ref x3), (4, .int x4), (5, .int x5), (6, .int (x6 + (1 : Int32)))]) C dX3_wayOf_115 5 rfl (by decide) (Nat.le_of_ble_eq_true rfl) [1, 2, 3, 4, 5, 0] rfl ?_
          refine x_goto (tgt := 74) C dX3_wayOf_118 (by decide) ?_
          exact ih x0 x1 x3 x4 x5 (x6 + (1 : Int32)) _ _ _ _ _ _ (by omega) (by omega) hf
        · have hf := pf_t w9 hf
          refine x_aload_n C dX3_wayOf_109 2 rfl ?_
          refine x_iload C dX3_wayOf_110 4 rfl ?_
          refine x_iload C dX3_wayOf_112 3 rfl ?_
          obtain ⟨h10, hf⟩ := pf_in hf
          refine ca_ist C B t7 h10 dX3_wayOf_114 ?_
          obtain ⟨da11, eda11, hf⟩ := pf_e hf
          refine c_ren eda11 ?_
          refine x_inc (c := (1 : Int32)) (L' := [(0, .ref x0), (1, .int x1), (3, .ref x3), (4, .int x4), (5, .int x5), (6, .int (x6 + (1 : Int32)))]) C dX3_wayOf_115 5 rfl (by decide) (Nat.le_of_ble_eq_true rfl) [1, 2, 3, 4, 5, 0] rfl ?_
          refine x_goto (tgt := 74) C dX3_wayOf_118 (by decide) ?_
          exact ih x0 x1 x3 x4 x5 (x6 + (1 : Int32)) _ _ _ _ _ _ (by omega) (by omega) hf
def f_X3_wayOf_L50 (n : Nat) (k40 : Nat → Int32 → Nat → Int32 → CG → CD → Option (SR Nat)) : Nat → Nat → Int32 → Nat → Int32 → Int32 → CG → CD → Option (SR Nat)
  | 0, _, _, _, _, _, _, _ => none
  | m + 1, x0, x1, x3, x4, x5, g, d => if ht g x0 = 3 then if (hi d x0 17) ≤ x5 then (k40 x0 x1 x3 (x4 + (1 : Int32)) g d) else (if ht g x3 = 100 then if inb x5 (hn g x3) = true then if (hi d x3 (Int32.toNatClampNeg x5)) = (8 : Int32) then (f_X3_wayOf_L74 n k40 (f_X3_wayOf_L50 n k40 m) n x0 x1 x3 x4 x5 (0 : Int32) g d) else (f_X3_wayOf_L50 n k40 m x0 x1 x3 x4 (x5 + (1 : Int32)) g d) else none else none) else none
set_option maxHeartbeats 4000000 in
theorem w_X3_wayOf_50 {K : KT} {T : CT} {r : Nat} {g9 : CG} {d9 : CD} {c1 s1 : Nat} (n : Nat) (k40 : Nat → Int32 → Nat → Int32 → CG → CD → Option (SR Nat)) (C : Kok K cX3_wayOf 7 RX3) (B : CB K T) (hrt : (kMe K).sig.returnType = (some (.array .int))) (dK : kR K = rmC 3 c1 s1) (hQ : KQc K T (some (.ref r)) c1 s1 g9 d9)  (hk40 : ∀ (x0 : Nat) (x1 : Int32) (x3 : Nat) (x4 : Int32) (g : CG) (d : CD) (c0 s0 k m9 : Nat), c1 = c0 + k → s1 = s0 + m9 → k40 x0 x1 x3 x4 g d = some (r, g9, d9, k, m9) → XJ K 7 (Wc K T c0 s0 g d) 40 [(0, .ref x0), (1, .int x1), (3, .ref x3), (4, .int x4)] []) : ∀ (m : Nat) (x0 : Nat) (x1 : Int32) (x3 : Nat) (x4 : Int32) (x5 : Int32) (g : CG) (d : CD) (c0 s0 k m9 : Nat) (hc : c1 = c0 + k) (hs : s1 = s0 + m9) (hf : f_X3_wayOf_L50 n k40 m x0 x1 x3 x4 x5 g d = some (r, g9, d9, k, m9)), XJ K 7 (Wc K T c0 s0 g d) 50 [(0, .ref x0), (1, .int x1), (3, .ref x3), (4, .int x4), (5, .int x5)] [] := by
  intro m
  induction m with
  | zero => intro x0 x1 x3 x4 x5 g d c0 s0 k m9 hc hs hf; cases hf
  | succ m ih =>
    intro x0 x1 x3 x4 x5 g d c0 s0 k m9 hc hs hf
    rw [f_X3_wayOf_L50] at hf
    refine x_iload C dX3_wayOf_50 4 rfl ?_
    refine x_aload_n C dX3_wayOf_52 0 rfl ?_
    obtain ⟨t1, hf⟩ := pf_ch hf
    refine cg3_17 C B t1 (flo C q322) fsm dX3_wayOf_53 ?_
    refine x_icmp_ge (tgt := 127) C dX3_wayOf_56 (by decide) (fun w2 => ?_) (fun w2 => ?_)
    · have hf := pf_t w2 hf
      refine x_inc (c := (1 : Int32)) (L' := [(0, .ref x0), (1, .int x1), (3, .ref x3), (4, .int (x4 + (1 : Int32)))]) C dX3_wayOf_127 3 rfl (by decide) (Nat.le_of_ble_eq_true rfl) [1, 2, 3, 0] rfl ?_
      refine x_goto (tgt := 40) C dX3_wayOf_130 (by decide) ?_
      exact hk40 x0 x1 x3 (x4 + (1 : Int32)) _ _ _ _ _ _ (by omega) (by omega) hf
    · have hf := pf_f w2 hf
      refine x_aload_n C dX3_wayOf_59 2 rfl ?_
      refine x_iload C dX3_wayOf_60 4 rfl ?_
      obtain ⟨t3, hf⟩ := pf_ch hf
      obtain ⟨h4, hf⟩ := pf_in hf
      refine ca_ild C B t3 h4 dX3_wayOf_62 ?_
      refine x_bipush (8 : Int32) C dX3_wayOf_63 (by decide) ?_
      refine x_icmp_eq (tgt := 71) C dX3_wayOf_65 (by decide) (fun w5 => ?_) (fun w5 => ?_)
      · have hf := pf_t w5 hf
        refine x_iconst (0 : Int32) C dX3_wayOf_71 (by decide) ?_
        refine x_istore (L' := [(0, .ref x0), (1, .int x1), (3, .ref x3), (4, .int x4), (5, .int x5), (6, .int (0 : Int32))]) C dX3_wayOf_72 (Nat.le_of_ble_eq_true rfl) [1, 2, 3, 4, 5, 0] rfl ?_
        exact w_X3_wayOf_74 n _ _ C B hrt dK hQ hk40 ih n x0 x1 x3 x4 x5 (0 : Int32) _ _ _ _ _ _ (by omega) (by omega) hf
      · have hf := pf_f w5 hf
        refine x_goto (tgt := 121) C dX3_wayOf_68 (by decide) ?_
        refine x_inc (c := (1 : Int32)) (L' := [(0, .ref x0), (1, .int x1), (3, .ref x3), (4, .int x4), (5, .int (x5 + (1 : Int32)))]) C dX3_wayOf_121 4 rfl (by decide) (Nat.le_of_ble_eq_true rfl) [1, 2, 3, 4, 0] rfl ?_
        refine x_goto (tgt := 50) C dX3_wayOf_124 (by decide) ?_
        exact ih x0 x1 x3 x4 (x5 + (1 : Int32)) _ _ _ _ _ _ (by omega) (by omega) hf
def f_X3_wayOf_L173 (n : Nat) (k162 : Nat → Nat → Nat → Int32 → CG → CD → Option (SR Nat)) : Nat → Nat → Nat → Nat → Int32 → Int32 → CG → CD → Option (SR Nat)
  | 0, _, _, _, _, _, _, _ => none
  | m + 1, x0, x3, x4, x5, x6, g, d => if ht g x0 = 3 then (hr g x0 5).bind fun p2 => if ht g x4 = 100 then if inb (x5 - (1 : Int32)) (hn g x4) = true then if ht g p2 = 100 then if inb (hi d x4 (Int32.toNatClampNeg (x5 - (1 : Int32)))) (hn g p2) = true then if (f_X1_has (hi d p2 (Int32.toNatClampNeg (hi d x4 (Int32.toNatClampNeg (x5 - (1 : Int32)))))) x6) = 0 then (f_X3_wayOf_L173 n k162 m x0 x3 x4 x5 (x6 + (1 : Int32)) g d) else (if ht g x3 = 100 then if inb x6 (hn g x3) = true then if inb (hi d x4 (Int32.toNatClampNeg (x5 - (1 : Int32)))) (hn g x3) = true then if (hi d x3 (Int32.toNatClampNeg x6)) = ((hi d x3 (Int32.toNatClampNeg (hi d x4 (Int32.toNatClampNeg (x5 - (1 : Int32)))))) - (1 : Int32)) then (if inb x5 (hn g x4) = true then ev (wi d x4 (Int32.toNatClampNeg x5) x6) fun da13 => k162 x0 x3 x4 (x5 + (1 : Int32)) g da13 else none) else (f_X3_wayOf_L173 n k162 m x0 x3 x4 x5 (x6 + (1 : Int32)) g d) else none else none else none) else none else none else none else none else none
set_option maxHeartbeats 4000000 in
theorem w_X3_wayOf_173 {K : KT} {T : CT} {r : Nat} {g9 : CG} {d9 : CD} {c1 s1 : Nat} (n : Nat) (k162 : Nat → Nat → Nat → Int32 → CG → CD → Option (SR Nat)) (C : Kok K cX3_wayOf 7 RX3) (B : CB K T) (hrt : (kMe K).sig.returnType = (some (.array .int))) (dK : kR K = rmC 3 c1 s1) (hQ : KQc K T (some (.ref r)) c1 s1 g9 d9)  (hk162 : ∀ (x0 : Nat) (x3 : Nat) (x4 : Nat) (x5 : Int32) (g : CG) (d : CD) (c0 s0 k m9 : Nat), c1 = c0 + k → s1 = s0 + m9 → k162 x0 x3 x4 x5 g d = some (r, g9, d9, k, m9) → XJ K 7 (Wc K T c0 s0 g d) 162 [(0, .ref x0), (3, .ref x3), (4, .ref x4), (5, .int x5)] []) : ∀ (m : Nat) (x0 : Nat) (x3 : Nat) (x4 : Nat) (x5 : Int32) (x6 : Int32) (g : CG) (d : CD) (c0 s0 k m9 : Nat) (hc : c1 = c0 + k) (hs : s1 = s0 + m9) (hf : f_X3_wayOf_L173 n k162 m x0 x3 x4 x5 x6 g d = some (r, g9, d9, k, m9)), XJ K 7 (Wc K T c0 s0 g d) 173 [(0, .ref x0), (3, .ref x3), (4, .ref x4), (5, .int x5), (6, .int x6)] [] := by
  intro m
  induction m with
  | zero => intro x0 x3 x4 x5 x6 g d c0 s0 k m9 hc hs hf; cases hf
  | succ m ih =>
    intro x0 x3 x4 x5 x6 g d c0 s0 k m9 hc hs hf
    rw [f_X3_wayOf_L173] at hf
    refine x_aload_n C dX3_wayOf_173 0 rfl ?_
    obtain ⟨t1, hf⟩ := pf_ch hf
    obtain ⟨p2, ep2, hf⟩ := pf_b hf
    refine cg3_5 C B t1 (flo C q286) fsm ep2 dX3_wayOf_174 ?_
    refine x_aload C dX3_wayOf_177 2 rfl ?_
    refine x_iload C dX3_wayOf_179 3 rfl ?_
    refine x_iconst (1 : Int32) C dX3_wayOf_181 (by decide) ?_
    refine x_isub C dX3_wayOf_182 ?_
    obtain ⟨t3, hf⟩ := pf_ch hf
    obtain ⟨h4, hf⟩ := pf_in hf
    refine ca_ild C B t3 h4 dX3_wayOf_183 ?_
    obtain ⟨t5, hf⟩ := pf_ch hf
    obtain ⟨h6, hf⟩ := pf_in hf
    refine ca_ild C B t5 h6 dX3_wayOf_184 ?_
    refine x_iload C dX3_wayOf_185 4 rfl ?_
    refine k_X1_has_X3 C B dK (Nat.le_of_ble_eq_true rfl) (by omega) rfl (Nat.le_of_ble_eq_true rfl) dX3_wayOf_187 ?_
    refine x_if_eq (tgt := 211) C dX3_wayOf_190 (by decide) (fun w7 => ?_) (fun w7 => ?_)
    · have hf := pf_t w7 hf
      refine x_inc (c := (1 : Int32)) (L' := [(0, .ref x0), (3, .ref x3), (4, .ref x4), (5, .int x5), (6, .int (x6 + (1 : Int32)))]) C dX3_wayOf_211 4 rfl (by decide) (Nat.le_of_ble_eq_true rfl) [1, 2, 3, 4, 0] rfl ?_
      refine x_goto (tgt := 173) C dX3_wayOf_214 (by decide) ?_
      exact ih x0 x3 x4 x5 (x6 + (1 : Int32)) _ _ _ _ _ _ (by omega) (by omega) hf
    · have hf := pf_f w7 hf
      refine x_aload_n C dX3_wayOf_193 1 rfl ?_
      refine x_iload C dX3_wayOf_194 4 rfl ?_
      obtain ⟨t8, hf⟩ := pf_ch hf
      obtain ⟨h9, hf⟩ := pf_in hf
      refine ca_ild C B t8 h9 dX3_wayOf_196 ?_
      refine x_aload_n C dX3_wayOf_197 1 rfl ?_
      refine x_aload C dX3_wayOf_198 2 rfl ?_
      refine x_iload C dX3_wayOf_200 3 rfl ?_
      refine x_iconst (1 : Int32) C dX3_wayOf_202 (by decide) ?_
      refine x_isub C dX3_wayOf_203 ?_
      refine ca_ild C B t3 h4 dX3_wayOf_204 ?_
      obtain ⟨h10, hf⟩ := pf_in hf
      refine ca_ild C B t8 h10 dX3_wayOf_205 ?_
      refine x_iconst (1 : Int32) C dX3_wayOf_206 (by decide) ?_
      refine x_isub C dX3_wayOf_207 ?_
      refine x_icmp_eq (tgt := 217) C dX3_wayOf_208 (by decide) (fun w11 => ?_) (fun w11 => ?_)
      · have hf := pf_t w11 hf
        refine x_aload C dX3_wayOf_217 2 rfl ?_
        refine x_iload C dX3_wayOf_219 3 rfl ?_
        refine x_iload C dX3_wayOf_221 4 rfl ?_
        obtain ⟨h12, hf⟩ := pf_in hf
        refine ca_ist C B t3 h12 dX3_wayOf_223 ?_
        obtain ⟨da13, eda13, hf⟩ := pf_e hf
        refine c_ren eda13 ?_
        refine x_inc (c := (1 : Int32)) (L' := [(0, .ref x0), (3, .ref x3), (4, .ref x4), (5, .int (x5 + (1 : Int32)))]) C dX3_wayOf_224 3 rfl (by decide) (Nat.le_of_ble_eq_true rfl) [1, 2, 3, 0] rfl ?_
        refine x_goto (tgt := 162) C dX3_wayOf_227 (by decide) ?_
        exact hk162 x0 x3 x4 (x5 + (1 : Int32)) _ _ _ _ _ _ (by omega) (by omega) hf
      · have hf := pf_f w11 hf
        refine x_inc (c := (1 : Int32)) (L' := [(0, .ref x0), (3, .ref x3), (4, .ref x4), (5, .int x5), (6, .int (x6 + (1 : Int32)))]) C dX3_wayOf_211 4 rfl (by decide) (Nat.le_of_ble_eq_true rfl) [1, 2, 3, 4, 0] rfl ?_
        refine x_goto (tgt := 173) C dX3_wayOf_214 (by decide) ?_
        exact ih x0 x3 x4 x5 (x6 + (1 : Int32)) _ _ _ _ _ _ (by omega) (by omega) hf
def f_X3_wayOf_L162 (n : Nat) : Nat → Nat → Nat → Nat → Int32 → CG → CD → Option (SR Nat)
  | 0, _, _, _, _, _, _ => none
  | m + 1, x0, x3, x4, x5, g, d => if ht g x4 = 100 then if (Int32.ofNat (hn g x4)) ≤ x5 then (some (x4, g, d, 0, 0)) else (f_X3_wayOf_L173 n (f_X3_wayOf_L162 n m) n x0 x3 x4 x5 (0 : Int32) g d) else none
set_option maxHeartbeats 4000000 in
theorem w_X3_wayOf_162 {K : KT} {T : CT} {r : Nat} {g9 : CG} {d9 : CD} {c1 s1 : Nat} (n : Nat) (C : Kok K cX3_wayOf 7 RX3) (B : CB K T) (hrt : (kMe K).sig.returnType = (some (.array .int))) (dK : kR K = rmC 3 c1 s1) (hQ : KQc K T (some (.ref r)) c1 s1 g9 d9) : ∀ (m : Nat) (x0 : Nat) (x3 : Nat) (x4 : Nat) (x5 : Int32) (g : CG) (d : CD) (c0 s0 k m9 : Nat) (hc : c1 = c0 + k) (hs : s1 = s0 + m9) (hf : f_X3_wayOf_L162 n m x0 x3 x4 x5 g d = some (r, g9, d9, k, m9)), XJ K 7 (Wc K T c0 s0 g d) 162 [(0, .ref x0), (3, .ref x3), (4, .ref x4), (5, .int x5)] [] := by
  intro m
  induction m with
  | zero => intro x0 x3 x4 x5 g d c0 s0 k m9 hc hs hf; cases hf
  | succ m ih =>
    intro x0 x3 x4 x5 g d c0 s0 k m9 hc hs hf
    rw [f_X3_wayOf_L162] at hf
    refine x_iload C dX3_wayOf_162 3 rfl ?_
    refine x_aload C dX3_wayOf_164 2 rfl ?_
    obtain ⟨t1, hf⟩ := pf_ch hf
    refine ca_len C B t1 (Or.inl rfl) rfl dX3_wayOf_166 ?_
    refine x_icmp_ge (tgt := 230) C dX3_wayOf_167 (by decide) (fun w2 => ?_) (fun w2 => ?_)
    · have hf := pf_t w2 hf
      refine x_aload C dX3_wayOf_230 2 rfl ?_
      obtain ⟨rfl, rfl, rfl, rfl, rfl⟩ := sr_inj hf
      refine c_cs (c0 := c1) (s0 := s1) (by omega) (by omega) ?_
      exact c_aret C hrt (Or.inr ⟨_, rfl⟩) hQ dX3_wayOf_232
    · have hf := pf_f w2 hf
      refine x_iconst (0 : Int32) C dX3_wayOf_170 (by decide) ?_
      refine x_istore (L' := [(0, .ref x0), (3, .ref x3), (4, .ref x4), (5, .int x5), (6, .int (0 : Int32))]) C dX3_wayOf_171 (Nat.le_of_ble_eq_true rfl) [1, 2, 3, 4, 0] rfl ?_
      exact w_X3_wayOf_173 n _ C B hrt dK hQ ih n x0 x3 x4 x5 (0 : Int32) _ _ _ _ _ _ (by omega) (by omega) hf
def f_X3_wayOf_L40 (n : Nat) : Nat → Nat → Int32 → Nat → Int32 → CG → CD → Option (SR Nat)
  | 0, _, _, _, _, _, _ => none
  | m + 1, x0, x1, x3, x4, g, d => if (8 : Int32) ≤ x4 then (if ht g x3 = 100 then if inb x1 (hn g x3) = true then if (hi d x3 (Int32.toNatClampNeg x1)) = (8 : Int32) then (if naok (0 : Int32) = true then tick 1 (Int32.toNatClampNeg (0 : Int32)) (ev (hz g) fun q15 => ev (nd d q15) fun da17 => ev (na g 100 (Int32.toNatClampNeg (0 : Int32))) fun ga16 => some (q15, ga16, da17, 0, 0)) else none) else (if naok ((hi d x3 (Int32.toNatClampNeg x1)) + (1 : Int32)) = true then tick 1 (Int32.toNatClampNeg ((hi d x3 (Int32.toNatClampNeg x1)) + (1 : Int32))) (ev (hz g) fun q6 => ev (nd d q6) fun da8 => ev (na g 100 (Int32.toNatClampNeg ((hi d x3 (Int32.toNatClampNeg x1)) + (1 : Int32)))) fun ga7 => if ht ga7 q6 = 100 then if inb (0 : Int32) (hn ga7 q6) = true then ev (wi da8 q6 (Int32.toNatClampNeg (0 : Int32)) x1) fun da13 => f_X3_wayOf_L162 n n x0 x3 q6 (1 : Int32) ga7 da13 else none else none) else none) else none else none) else (f_X3_wayOf_L50 n (f_X3_wayOf_L40 n m) n x0 x1 x3 x4 (0 : Int32) g d)
set_option maxHeartbeats 4000000 in
theorem w_X3_wayOf_40 {K : KT} {T : CT} {r : Nat} {g9 : CG} {d9 : CD} {c1 s1 : Nat} (n : Nat) (C : Kok K cX3_wayOf 7 RX3) (B : CB K T) (hrt : (kMe K).sig.returnType = (some (.array .int))) (dK : kR K = rmC 3 c1 s1) (hQ : KQc K T (some (.ref r)) c1 s1 g9 d9) : ∀ (m : Nat) (x0 : Nat) (x1 : Int32) (x3 : Nat) (x4 : Int32) (g : CG) (d : CD) (c0 s0 k m9 : Nat) (hc : c1 = c0 + k) (hs : s1 = s0 + m9) (hf : f_X3_wayOf_L40 n m x0 x1 x3 x4 g d = some (r, g9, d9, k, m9)), XJ K 7 (Wc K T c0 s0 g d) 40 [(0, .ref x0), (1, .int x1), (3, .ref x3), (4, .int x4)] [] := by
  intro m
  induction m with
  | zero => intro x0 x1 x3 x4 g d c0 s0 k m9 hc hs hf; cases hf
  | succ m ih =>
    intro x0 x1 x3 x4 g d c0 s0 k m9 hc hs hf
    rw [f_X3_wayOf_L40] at hf
    refine x_iload C dX3_wayOf_40 3 rfl ?_
    refine x_bipush (8 : Int32) C dX3_wayOf_42 (by decide) ?_
    refine x_icmp_ge (tgt := 133) C dX3_wayOf_44 (by decide) (fun w1 => ?_) (fun w1 => ?_)
    · have hf := pf_t w1 hf
      refine x_aload_n C dX3_wayOf_133 2 rfl ?_
      refine x_iload_n C dX3_wayOf_134 1 rfl ?_
      obtain ⟨t2, hf⟩ := pf_ch hf
      obtain ⟨h3, hf⟩ := pf_in hf
      refine ca_ild C B t2 h3 dX3_wayOf_135 ?_
      refine x_bipush (8 : Int32) C dX3_wayOf_136 (by decide) ?_
      refine x_icmp_ne (tgt := 145) C dX3_wayOf_138 (by decide) (fun w4 => ?_) (fun w4 => ?_)
      · have hf := pf_f w4 hf
        refine x_aload_n C dX3_wayOf_145 2 rfl ?_
        refine x_iload_n C dX3_wayOf_146 1 rfl ?_
        refine ca_ild C B t2 h3 dX3_wayOf_147 ?_
        refine x_iconst (1 : Int32) C dX3_wayOf_148 (by decide) ?_
        refine x_iadd C dX3_wayOf_149 ?_
        obtain ⟨h5, hf⟩ := pf_ch hf
        obtain ⟨j9, i10, ej9, ei10, hf⟩ := pf_tk hf
        refine c_newI C B h5 dK (by omega) dX3_wayOf_150 ?_
        obtain ⟨q6, eq6, hf⟩ := pf_e hf
        refine x_toprr eq6 ?_
        obtain ⟨da8, eda8, hf⟩ := pf_e hf
        obtain ⟨ga7, ega7, hf⟩ := pf_e hf
        rw [← eq6, ← eda8]
        refine c_renG ega7 ?_
        refine x_astore (L' := [(0, .ref x0), (1, .int x1), (3, .ref x3), (4, .ref q6)]) C dX3_wayOf_152 (Nat.le_of_ble_eq_true rfl) [1, 2, 3, 0] rfl ?_
        refine x_aload C dX3_wayOf_154 3 rfl ?_
        refine x_iconst (0 : Int32) C dX3_wayOf_156 (by decide) ?_
        refine x_iload_n C dX3_wayOf_157 1 rfl ?_
        obtain ⟨t11, hf⟩ := pf_ch hf
        obtain ⟨h12, hf⟩ := pf_in hf
        refine ca_ist C B t11 h12 dX3_wayOf_158 ?_
        obtain ⟨da13, eda13, hf⟩ := pf_e hf
        refine c_ren eda13 ?_
        refine x_iconst (1 : Int32) C dX3_wayOf_159 (by decide) ?_
        refine x_istore (L' := [(0, .ref x0), (3, .ref x3), (4, .ref q6), (5, .int (1 : Int32))]) C dX3_wayOf_160 (Nat.le_of_ble_eq_true rfl) [1, 3, 4, 0] rfl ?_
        exact w_X3_wayOf_162 n C B hrt dK hQ n x0 x3 q6 (1 : Int32) _ _ _ _ _ _ (by omega) (by omega) hf
      · have hf := pf_t w4 hf
        refine x_iconst (0 : Int32) C dX3_wayOf_141 (by decide) ?_
        obtain ⟨h14, hf⟩ := pf_ch hf
        obtain ⟨j18, i19, ej18, ei19, hf⟩ := pf_tk hf
        refine c_newI C B h14 dK (by omega) dX3_wayOf_142 ?_
        obtain ⟨q15, eq15, hf⟩ := pf_e hf
        refine x_toprr eq15 ?_
        obtain ⟨da17, eda17, hf⟩ := pf_e hf
        obtain ⟨ga16, ega16, hf⟩ := pf_e hf
        rw [← eq15, ← eda17]
        refine c_renG ega16 ?_
        obtain ⟨rfl, rfl, rfl, rfl, rfl⟩ := sr_inj hf
        refine c_cs (c0 := c1) (s0 := s1) (by omega) (by omega) ?_
        exact c_aret C hrt (Or.inr ⟨_, rfl⟩) hQ dX3_wayOf_144
    · have hf := pf_f w1 hf
      refine x_iconst (0 : Int32) C dX3_wayOf_47 (by decide) ?_
      refine x_istore (L' := [(0, .ref x0), (1, .int x1), (3, .ref x3), (4, .int x4), (5, .int (0 : Int32))]) C dX3_wayOf_48 (Nat.le_of_ble_eq_true rfl) [1, 2, 3, 4, 0] rfl ?_
      exact w_X3_wayOf_50 n _ C B hrt dK hQ ih n x0 x1 x3 x4 (0 : Int32) _ _ _ _ _ _ (by omega) (by omega) hf
def f_X3_wayOf_L8 (n : Nat) : Nat → Nat → Int32 → Int32 → Nat → Int32 → CG → CD → Option (SR Nat)
  | 0, _, _, _, _, _, _, _ => none
  | m + 1, x0, x1, x2, x3, x4, g, d => if (8 : Int32) ≤ x4 then (f_X3_wayOf_L40 n n x0 x1 x3 (1 : Int32) g d) else (if x4 = x2 then (if ht g x3 = 100 then if inb x4 (hn g x3) = true then ev (wi d x3 (Int32.toNatClampNeg x4) (0 : Int32)) fun da8 => f_X3_wayOf_L8 n m x0 x1 x2 x3 (x4 + (1 : Int32)) g da8 else none else none) else (if ht g x3 = 100 then if inb x4 (hn g x3) = true then ev (wi d x3 (Int32.toNatClampNeg x4) (8 : Int32)) fun da5 => f_X3_wayOf_L8 n m x0 x1 x2 x3 (x4 + (1 : Int32)) g da5 else none else none))
set_option maxHeartbeats 4000000 in
theorem w_X3_wayOf_8 {K : KT} {T : CT} {r : Nat} {g9 : CG} {d9 : CD} {c1 s1 : Nat} (n : Nat) (C : Kok K cX3_wayOf 7 RX3) (B : CB K T) (hrt : (kMe K).sig.returnType = (some (.array .int))) (dK : kR K = rmC 3 c1 s1) (hQ : KQc K T (some (.ref r)) c1 s1 g9 d9) : ∀ (m : Nat) (x0 : Nat) (x1 : Int32) (x2 : Int32) (x3 : Nat) (x4 : Int32) (g : CG) (d : CD) (c0 s0 k m9 : Nat) (hc : c1 = c0 + k) (hs : s1 = s0 + m9) (hf : f_X3_wayOf_L8 n m x0 x1 x2 x3 x4 g d = some (r, g9, d9, k, m9)), XJ K 7 (Wc K T c0 s0 g d) 8 [(0, .ref x0), (1, .int x1), (2, .int x2), (3, .ref x3), (4, .int x4)] [] := by
  intro m
  induction m with
  | zero => intro x0 x1 x2 x3 x4 g d c0 s0 k m9 hc hs hf; cases hf
  | succ m ih =>
    intro x0 x1 x2 x3 x4 g d c0 s0 k m9 hc hs hf
    rw [f_X3_wayOf_L8] at hf
    refine x_iload C dX3_wayOf_8 4 rfl ?_
    refine x_bipush (8 : Int32) C dX3_wayOf_10 (by decide) ?_
    refine x_icmp_ge (tgt := 37) C dX3_wayOf_12 (by decide) (fun w1 => ?_) (fun w1 => ?_)
    · have hf := pf_t w1 hf
      refine x_iconst (1 : Int32) C dX3_wayOf_37 (by decide) ?_
      refine x_istore (L' := [(0, .ref x0), (1, .int x1), (3, .ref x3), (4, .int (1 : Int32))]) C dX3_wayOf_38 (Nat.le_of_ble_eq_true rfl) [1, 2, 4, 0] rfl ?_
      exact w_X3_wayOf_40 n C B hrt dK hQ n x0 x1 x3 (1 : Int32) _ _ _ _ _ _ (by omega) (by omega) hf
    · have hf := pf_f w1 hf
      refine x_aload_n C dX3_wayOf_15 3 rfl ?_
      refine x_iload C dX3_wayOf_16 4 rfl ?_
      refine x_iload C dX3_wayOf_18 4 rfl ?_
      refine x_iload_n C dX3_wayOf_20 2 rfl ?_
      refine x_icmp_ne (tgt := 28) C dX3_wayOf_21 (by decide) (fun w2 => ?_) (fun w2 => ?_)
      · have hf := pf_f w2 hf
        refine x_bipush (8 : Int32) C dX3_wayOf_28 (by decide) ?_
        obtain ⟨t3, hf⟩ := pf_ch hf
        obtain ⟨h4, hf⟩ := pf_in hf
        refine ca_ist C B t3 h4 dX3_wayOf_30 ?_
        obtain ⟨da5, eda5, hf⟩ := pf_e hf
        refine c_ren eda5 ?_
        refine x_inc (c := (1 : Int32)) (L' := [(0, .ref x0), (1, .int x1), (2, .int x2), (3, .ref x3), (4, .int (x4 + (1 : Int32)))]) C dX3_wayOf_31 4 rfl (by decide) (Nat.le_of_ble_eq_true rfl) [1, 2, 3, 4, 0] rfl ?_
        refine x_goto (tgt := 8) C dX3_wayOf_34 (by decide) ?_
        exact ih x0 x1 x2 x3 (x4 + (1 : Int32)) _ _ _ _ _ _ (by omega) (by omega) hf
      · have hf := pf_t w2 hf
        refine x_iconst (0 : Int32) C dX3_wayOf_24 (by decide) ?_
        refine x_goto (tgt := 30) C dX3_wayOf_25 (by decide) ?_
        obtain ⟨t6, hf⟩ := pf_ch hf
        obtain ⟨h7, hf⟩ := pf_in hf
        refine ca_ist C B t6 h7 dX3_wayOf_30 ?_
        obtain ⟨da8, eda8, hf⟩ := pf_e hf
        refine c_ren eda8 ?_
        refine x_inc (c := (1 : Int32)) (L' := [(0, .ref x0), (1, .int x1), (2, .int x2), (3, .ref x3), (4, .int (x4 + (1 : Int32)))]) C dX3_wayOf_31 4 rfl (by decide) (Nat.le_of_ble_eq_true rfl) [1, 2, 3, 4, 0] rfl ?_
        refine x_goto (tgt := 8) C dX3_wayOf_34 (by decide) ?_
        exact ih x0 x1 x2 x3 (x4 + (1 : Int32)) _ _ _ _ _ _ (by omega) (by omega) hf
def f_X3_wayOf (n : Nat) (x0 : Nat) (x1 : Int32) (x2 : Int32) (g : CG) (d : CD) : Option (SR Nat) := if naok (8 : Int32) = true then tick 1 (Int32.toNatClampNeg (8 : Int32)) (ev (hz g) fun q2 => ev (nd d q2) fun da4 => ev (na g 100 (Int32.toNatClampNeg (8 : Int32))) fun ga3 => f_X3_wayOf_L8 n n x0 x1 x2 q2 (0 : Int32) ga3 da4) else none
set_option maxHeartbeats 4000000 in
theorem w_X3_wayOf_E {K : KT} {T : CT} {r : Nat} {g9 : CG} {d9 : CD} {c1 s1 : Nat} (n : Nat) (C : Kok K cX3_wayOf 7 RX3) (B : CB K T) (hrt : (kMe K).sig.returnType = (some (.array .int))) (dK : kR K = rmC 3 c1 s1) (hQ : KQc K T (some (.ref r)) c1 s1 g9 d9) (x0 : Nat) (x1 : Int32) (x2 : Int32) (g : CG) (d : CD) (c0 s0 k m9 : Nat) (hc : c1 = c0 + k) (hs : s1 = s0 + m9) (hf : f_X3_wayOf n x0 x1 x2 g d = some (r, g9, d9, k, m9)) : XJ K 7 (Wc K T c0 s0 g d) 0 [(0, .ref x0), (1, .int x1), (2, .int x2)] [] := by
  unfold f_X3_wayOf at hf
  refine x_bipush (8 : Int32) C dX3_wayOf_0 (by decide) ?_
  obtain ⟨h1, hf⟩ := pf_ch hf
  obtain ⟨j5, i6, ej5, ei6, hf⟩ := pf_tk hf
  refine c_newI C B h1 dK (by omega) dX3_wayOf_2 ?_
  obtain ⟨q2, eq2, hf⟩ := pf_e hf
  refine x_toprr eq2 ?_
  obtain ⟨da4, eda4, hf⟩ := pf_e hf
  obtain ⟨ga3, ega3, hf⟩ := pf_e hf
  rw [← eq2, ← eda4]
  refine c_renG ega3 ?_
  refine x_astore_n (L' := [(0, .ref x0), (1, .int x1), (2, .int x2), (3, .ref q2)]) C dX3_wayOf_4 (Nat.le_of_ble_eq_true rfl) [1, 2, 3, 0] rfl ?_
  refine x_iconst (0 : Int32) C dX3_wayOf_5 (by decide) ?_
  refine x_istore (L' := [(0, .ref x0), (1, .int x1), (2, .int x2), (3, .ref q2), (4, .int (0 : Int32))]) C dX3_wayOf_6 (Nat.le_of_ble_eq_true rfl) [1, 2, 3, 4, 0] rfl ?_
  exact w_X3_wayOf_8 n C B hrt dK hQ n x0 x1 x2 q2 (0 : Int32) _ _ _ _ _ _ (by omega) (by omega) hf
theorem met_X3_wayOf {T : CT} {v : (SR Nat)} {n : Nat} {g : CG} {d : CD} {x0 : Nat} {x1 : Int32} {x2 : Int32} {l : Launch} (hf : f_X3_wayOf n x0 x1 x2 g d = some v) : Met l yX3_wayOf (ws_ yX3_wayOf cX3_wayOf 7 (some (.array .int))) (rmC 3 v.2.2.2.1 v.2.2.2.2) (va_Pc [.ref x0, .int x1, .int x2] (CU T g d)) (Qc T (some (.ref v.1)) v.2.1 v.2.2.1) v.2.2.2.1 v.2.2.2.2 (cA T) :=
  c_metS [.ref x0, .int x1, .int x2] RX3 (by decide) rfl (Nat.le_of_ble_eq_true rfl) (fun K hl hR hrt hnm C B hQ => w_X3_wayOf_E n C B hrt hR hQ _ _ _ _ _ 0 0 _ _ (Nat.zero_add _).symm (Nat.zero_add _).symm hf)
theorem k_X3_wayOf_X3 {K : KT} {T : CT} {c0 s0 c1 s1 dk : Nat} {cc : ByteArray} {nL pc : Nat} {L : List (Nat × Value)} {rest : List Value} {g : CG} {d : CD} {v : (SR Nat)} {n : Nat} {x0 : Nat} {x1 : Int32} {x2 : Int32} (C : Kok K cc nL RX3) (B : CB K T) (hta : ht g x0 = 3) (dK : kR K = rmC dk c1 s1) (hd : 3 + 1 ≤ dk) (hcs : c0 + v.2.2.2.1 ≤ c1 ∧ s0 + v.2.2.2.2 ≤ s1) (hf : f_X3_wayOf n x0 x1 x2 g d = some v) (hW : (rest.map fun v => v.category).sum ≤ 8) (dd : decode cc pc = .ok (.invokevirtual 81, 3)) (kk2 : XJ K nL (Wc K T (c0 + v.2.2.2.1) (s0 + v.2.2.2.2) v.2.1 v.2.2.1) (pc + 3) L ((.ref v.1) :: rest)) : XJ K nL (Wc K T c0 s0 g d) pc L (.int x2 :: .int x1 :: .ref x0 :: rest) := by
  exact c_callV (rest := rest) (v := (some (.ref v.1))) [.int x1, .int x2] 2 rfl C B hta (by decide) (by decide) rfl dK hd (Nat.le_of_ble_eq_true rfl) hcs (lw_V q956 q958 qs8 q125 q959) (by decide +kernel) (met_X3_wayOf hf) rfl hW dd kk2
def f_X3_lays_L2 (n : Nat) : Nat → Nat → Int32 → CG → CD → Option (SR Unit)
  | 0, _, _, _, _ => none
  | m + 1, x0, x1, g, d => if ht g x0 = 3 then if (hi d x0 21) ≤ x1 then (some ((), g, d, 0, 0)) else ((hr g x0 15).bind fun p3 => (hr g x0 10).bind fun p4 => if ht g p4 = 100 then if inb x1 (hn g p4) = true then (hr g x0 11).bind fun p7 => if ht g p7 = 100 then if inb x1 (hn g p7) = true then (f_X3_wayOf n x0 (hi d p4 (Int32.toNatClampNeg x1)) (hi d p7 (Int32.toNatClampNeg x1)) g d).bind fun r10 => tick r10.2.2.2.1 r10.2.2.2.2 (if ht r10.2.1 p3 = 108 then if inb x1 (hn r10.2.1 p3) = true then if ht r10.2.1 r10.1 = 100 then ev (wr r10.2.1 p3 (Int32.toNatClampNeg x1) (some r10.1)) fun ga16 => f_X3_lays_L2 n m x0 (x1 + (1 : Int32)) ga16 r10.2.2.1 else none else none else none) else none else none else none else none) else none
set_option maxHeartbeats 4000000 in
theorem w_X3_lays_2 {K : KT} {T : CT} {r : Unit} {g9 : CG} {d9 : CD} {c1 s1 : Nat} (n : Nat) (C : Kok K cX3_lays 2 RX3) (B : CB K T) (hrt : (kMe K).sig.returnType = none) (dK : kR K = rmC 4 c1 s1) (hQ : KQc K T none c1 s1 g9 d9) : ∀ (m : Nat) (x0 : Nat) (x1 : Int32) (g : CG) (d : CD) (c0 s0 k m9 : Nat) (hc : c1 = c0 + k) (hs : s1 = s0 + m9) (hf : f_X3_lays_L2 n m x0 x1 g d = some (r, g9, d9, k, m9)), XJ K 2 (Wc K T c0 s0 g d) 2 [(0, .ref x0), (1, .int x1)] [] := by
  intro m
  induction m with
  | zero => intro x0 x1 g d c0 s0 k m9 hc hs hf; cases hf
  | succ m ih =>
    intro x0 x1 g d c0 s0 k m9 hc hs hf
    rw [f_X3_lays_L2] at hf
    refine x_iload_n C dX3_lays_2 1 rfl ?_
    refine x_aload_n C dX3_lays_3 0 rfl ?_
    obtain ⟨t1, hf⟩ := pf_ch hf
    refine cg3_21 C B t1 (flo C q338) fsm dX3_lays_4 ?_
    refine x_icmp_ge (tgt := 38) C dX3_lays_7 (by decide) (fun w2 => ?_) (fun w2 => ?_)
    · have hf := pf_t w2 hf
      obtain ⟨rfl, rfl, rfl, rfl, rfl⟩ := sr_inj hf
      refine c_cs (c0 := c1) (s0 := s1) (by omega) (by omega) ?_
      exact c_vret C hrt hQ dX3_lays_38
    · have hf := pf_f w2 hf
      refine x_aload_n C dX3_lays_10 0 rfl ?_
      obtain ⟨p3, ep3, hf⟩ := pf_b hf
      refine cg3_15 C B t1 (flo C q317) fsm ep3 dX3_lays_11 ?_
      refine x_iload_n C dX3_lays_14 1 rfl ?_
      refine x_aload_n C dX3_lays_15 0 rfl ?_
      refine x_aload_n C dX3_lays_16 0 rfl ?_
      obtain ⟨p4, ep4, hf⟩ := pf_b hf
      refine cg3_10 C B t1 (flo C q301) fsm ep4 dX3_lays_17 ?_
      refine x_iload_n C dX3_lays_20 1 rfl ?_
      obtain ⟨t5, hf⟩ := pf_ch hf
      obtain ⟨h6, hf⟩ := pf_in hf
      refine ca_ild C B t5 h6 dX3_lays_21 ?_
      refine x_aload_n C dX3_lays_22 0 rfl ?_
      obtain ⟨p7, ep7, hf⟩ := pf_b hf
      refine cg3_11 C B t1 (flo C q304) fsm ep7 dX3_lays_23 ?_
      refine x_iload_n C dX3_lays_26 1 rfl ?_
      obtain ⟨t8, hf⟩ := pf_ch hf
      obtain ⟨h9, hf⟩ := pf_in hf
      refine ca_ild C B t8 h9 dX3_lays_27 ?_
      obtain ⟨r10, er10, hf⟩ := pf_b hf
      obtain ⟨j11, i12, ej11, ei12, hf⟩ := pf_tk hf
      refine k_X3_wayOf_X3 C B t1 dK (Nat.le_of_ble_eq_true rfl) (by omega) er10 (Nat.le_of_ble_eq_true rfl) dX3_lays_28 ?_
      obtain ⟨t13, hf⟩ := pf_ch hf
      obtain ⟨h14, hf⟩ := pf_in hf
      obtain ⟨t15, hf⟩ := pf_ch hf
      refine c_ast8 C B t13 t15 h14 dX3_lays_31 ?_
      obtain ⟨ga16, ega16, hf⟩ := pf_e hf
      refine c_renG ega16 ?_
      refine x_inc (c := (1 : Int32)) (L' := [(0, .ref x0), (1, .int (x1 + (1 : Int32)))]) C dX3_lays_32 1 rfl (by decide) (Nat.le_of_ble_eq_true rfl) [1, 0] rfl ?_
      refine x_goto (tgt := 2) C dX3_lays_35 (by decide) ?_
      exact ih x0 (x1 + (1 : Int32)) _ _ _ _ _ _ (by omega) (by omega) hf
def f_X3_lays (n : Nat) (x0 : Nat) (g : CG) (d : CD) : Option (SR Unit) := f_X3_lays_L2 n n x0 (0 : Int32) g d
set_option maxHeartbeats 4000000 in
theorem w_X3_lays_E {K : KT} {T : CT} {r : Unit} {g9 : CG} {d9 : CD} {c1 s1 : Nat} (n : Nat) (C : Kok K cX3_lays 2 RX3) (B : CB K T) (hrt : (kMe K).sig.returnType = none) (dK : kR K = rmC 4 c1 s1) (hQ : KQc K T none c1 s1 g9 d9) (x0 : Nat) (g : CG) (d : CD) (c0 s0 k m9 : Nat) (hc : c1 = c0 + k) (hs : s1 = s0 + m9) (hf : f_X3_lays n x0 g d = some (r, g9, d9, k, m9)) : XJ K 2 (Wc K T c0 s0 g d) 0 [(0, .ref x0)] [] := by
  unfold f_X3_lays at hf
  refine x_iconst (0 : Int32) C dX3_lays_0 (by decide) ?_
  refine x_istore_n (L' := [(0, .ref x0), (1, .int (0 : Int32))]) C dX3_lays_1 (Nat.le_of_ble_eq_true rfl) [1, 0] rfl ?_
  exact w_X3_lays_2 n C B hrt dK hQ n x0 (0 : Int32) _ _ _ _ _ _ (by omega) (by omega) hf
theorem met_X3_lays {T : CT} {v : (SR Unit)} {n : Nat} {g : CG} {d : CD} {x0 : Nat} {l : Launch} (hf : f_X3_lays n x0 g d = some v) : Met l yX3_lays (ws_ yX3_lays cX3_lays 2 none) (rmC 4 v.2.2.2.1 v.2.2.2.2) (va_Pc [.ref x0] (CU T g d)) (Qc T none v.2.1 v.2.2.1) v.2.2.2.1 v.2.2.2.2 (cA T) :=
  c_metS [.ref x0] RX3 (by decide) rfl (Nat.le_of_ble_eq_true rfl) (fun K hl hR hrt hnm C B hQ => w_X3_lays_E n C B hrt hR hQ _ _ _ 0 0 _ _ (Nat.zero_add _).symm (Nat.zero_add _).symm hf)
theorem k_X4_init_X1 {K : KT} {T : CT} {c0 s0 c1 s1 dk : Nat} {cc : ByteArray} {nL pc : Nat} {L : List (Nat × Value)} {rest : List Value} {g : CG} {d : CD} {v : (SR Unit)} {n : Nat} {x0 : Nat} (C : Kok K cc nL RX1) (B : CB K T) (dK : kR K = rmC dk c1 s1) (hd : 4 + 1 ≤ dk) (hcs : c0 + v.2.2.2.1 ≤ c1 ∧ s0 + v.2.2.2.2 ≤ s1) (hf : f_X4_init n x0 g d = some v) (hW : (rest.map fun v => v.category).sum ≤ 8) (dd : decode cc pc = .ok (.invokespecial 86, 3)) (kk2 : XJ K nL (Wc K T (c0 + v.2.2.2.1) (s0 + v.2.2.2.2) v.2.1 v.2.2.1) (pc + 3) L (rest)) : XJ K nL (Wc K T c0 s0 g d) pc L (.ref x0 :: rest) := by
  exact c_callI (rest := rest) (v := none) [] 0 rfl C B dK hd (Nat.le_of_ble_eq_true rfl) hcs q400 q398 q399 q126 rfl (by decide +kernel) (met_X4_init hf) rfl hW dd kk2
def f_X1_keep_L84 (n : Nat) (x0 : Nat) (x1 : Nat) (g : CG) (d : CD) : Option (SR Unit) := if ht g x0 = 1 then (hr g x0 7).bind fun p2 => if ht g x1 = 4 then (f_X4_be n g x1 p2 d).bind fun r4 => (hr g x0 12).bind fun p5 => if ht g p5 = 104 then if inb (hi r4 x0 13) (hn g p5) = true then ev (wr g p5 (Int32.toNatClampNeg (hi r4 x0 13)) (some x1)) fun ga8 => if ht ga8 x0 = 1 then ev (wi r4 x0 13 ((hi r4 x0 13) + (1 : Int32))) fun da10 => some ((), ga8, da10, 0, 0) else none else none else none else none else none
set_option maxHeartbeats 4000000 in
theorem w_X1_keep_84 {K : KT} {T : CT} {r : Unit} {g9 : CG} {d9 : CD} {c1 s1 : Nat} (n : Nat) (C : Kok K cX1_keep 2 RX1) (B : CB K T) (hrt : (kMe K).sig.returnType = none) (dK : kR K = rmC 5 c1 s1) (hQ : KQc K T none c1 s1 g9 d9) (x0 : Nat) (x1 : Nat) (g : CG) (d : CD) (c0 s0 k m9 : Nat) (hc : c1 = c0 + k) (hs : s1 = s0 + m9) (hf : f_X1_keep_L84 n x0 x1 g d = some (r, g9, d9, k, m9)) : XJ K 2 (Wc K T c0 s0 g d) 84 [(0, .ref x0), (1, .ref x1)] [] := by
  unfold f_X1_keep_L84 at hf
  refine x_aload_n C dX1_keep_84 1 rfl ?_
  refine x_aload_n C dX1_keep_85 0 rfl ?_
  obtain ⟨t1, hf⟩ := pf_ch hf
  obtain ⟨p2, ep2, hf⟩ := pf_b hf
  refine cg1_7 C B t1 (flo C q624) fsm ep2 dX1_keep_86 ?_
  obtain ⟨t3, hf⟩ := pf_ch hf
  obtain ⟨r4, er4, hf⟩ := pf_b hf
  refine k_X4_be_X1 C B t3 dK (Nat.le_of_ble_eq_true rfl) (by omega) er4 (Nat.le_of_ble_eq_true rfl) dX1_keep_89 ?_
  refine x_aload_n C dX1_keep_92 0 rfl ?_
  obtain ⟨p5, ep5, hf⟩ := pf_b hf
  refine cg1_12 C B t1 (flo C q631) fsm ep5 dX1_keep_93 ?_
  refine x_aload_n C dX1_keep_96 0 rfl ?_
  refine cg1_13 C B t1 (flo C q632) fsm dX1_keep_97 ?_
  refine x_aload_n C dX1_keep_100 1 rfl ?_
  obtain ⟨t6, hf⟩ := pf_ch hf
  obtain ⟨h7, hf⟩ := pf_in hf
  refine c_ast 4 C B (by decide) t6 rfl t3 (by decide) (by decide) rfl (Or.inl rfl) h7 dX1_keep_101 ?_
  obtain ⟨ga8, ega8, hf⟩ := pf_e hf
  refine c_renG ega8 ?_
  refine x_aload_n C dX1_keep_102 0 rfl ?_
  refine x_dup C dX1_keep_103 rfl ?_
  obtain ⟨t9, hf⟩ := pf_ch hf
  refine cg1_13 C B t9 (flo C q632) fsm dX1_keep_104 ?_
  refine x_iconst (1 : Int32) C dX1_keep_107 (by decide) ?_
  refine x_iadd C dX1_keep_108 ?_
  refine cp1_13 C B t9 (flo C q632) fsm dX1_keep_109 ?_
  obtain ⟨da10, eda10, hf⟩ := pf_e hf
  refine c_ren eda10 ?_
  obtain ⟨rfl, rfl, rfl, rfl, rfl⟩ := sr_inj hf
  refine c_cs (c0 := c1) (s0 := s1) (by omega) (by omega) ?_
  exact c_vret C hrt hQ dX1_keep_112
def f_X1_keep_L49 (n : Nat) (x0 : Nat) (y0 : Nat) (g : CG) (d : CD) : Option (SR Unit) := if ht g x0 = 1 then if (hi d x0 13) = (8 : Int32) then ((hr g x0 12).bind fun p3 => if ht g p3 = 104 then if cpok (1 : Int32) (0 : Int32) (7 : Int32) (hn g p3) (hn g p3) = true then if allst g p3 (Int32.toNatClampNeg (1 : Int32)) (Int32.toNatClampNeg (7 : Int32)) = true then ev (wra g p3 (va_cpy (hr g p3) (hr g p3) (Int32.toNatClampNeg (1 : Int32)) (Int32.toNatClampNeg (0 : Int32)) (Int32.toNatClampNeg (7 : Int32)))) fun ga7 => if ht ga7 x0 = 1 then ev (wi d x0 13 ((hi d x0 13) - (1 : Int32))) fun da9 => f_X1_keep_L84 n x0 y0 ga7 da9 else none else none else none else none) else (f_X1_keep_L84 n x0 y0 g d) else none
set_option maxHeartbeats 4000000 in
theorem w_X1_keep_49 {K : KT} {T : CT} {r : Unit} {g9 : CG} {d9 : CD} {c1 s1 : Nat} (n : Nat) (C : Kok K cX1_keep 2 RX1) (B : CB K T) (hrt : (kMe K).sig.returnType = none) (dK : kR K = rmC 5 c1 s1) (hQ : KQc K T none c1 s1 g9 d9) (x0 : Nat) (y0 : Nat) (g : CG) (d : CD) (c0 s0 k m9 : Nat) (hc : c1 = c0 + k) (hs : s1 = s0 + m9) (hf : f_X1_keep_L49 n x0 y0 g d = some (r, g9, d9, k, m9)) : XJ K 2 (Wc K T c0 s0 g d) 49 [(0, .ref x0)] [.ref y0] := by
  unfold f_X1_keep_L49 at hf
  refine x_astore_n (L' := [(0, .ref x0), (1, .ref y0)]) C dX1_keep_49 (Nat.le_of_ble_eq_true rfl) [1, 0] rfl ?_
  refine x_aload_n C dX1_keep_50 0 rfl ?_
  obtain ⟨t1, hf⟩ := pf_ch hf
  refine cg1_13 C B t1 (flo C q632) fsm dX1_keep_51 ?_
  refine x_bipush (8 : Int32) C dX1_keep_54 (by decide) ?_
  refine x_icmp_ne (tgt := 84) C dX1_keep_56 (by decide) (fun w2 => ?_) (fun w2 => ?_)
  · have hf := pf_f w2 hf
    exact w_X1_keep_84 n C B hrt dK hQ x0 y0 _ _ _ _ _ _ (by omega) (by omega) hf
  · have hf := pf_t w2 hf
    refine x_aload_n C dX1_keep_59 0 rfl ?_
    obtain ⟨p3, ep3, hf⟩ := pf_b hf
    refine cg1_12 C B t1 (flo C q631) fsm ep3 dX1_keep_60 ?_
    refine x_iconst (1 : Int32) C dX1_keep_63 (by decide) ?_
    refine x_aload_n C dX1_keep_64 0 rfl ?_
    refine cg1_12 C B t1 (flo C q631) fsm ep3 dX1_keep_65 ?_
    refine x_iconst (0 : Int32) C dX1_keep_68 (by decide) ?_
    refine x_bipush (7 : Int32) C dX1_keep_69 (by decide) ?_
    obtain ⟨t4, hf⟩ := pf_ch hf
    obtain ⟨h5, hf⟩ := pf_ch hf
    obtain ⟨h6, hf⟩ := pf_ch hf
    refine c_copyS C B q1055 q1037 q1036 q140 t4 t4 h5 h6 dK (Nat.le_of_ble_eq_true rfl) (Nat.le_of_ble_eq_true rfl) dX1_keep_71 ?_
    obtain ⟨ga7, ega7, hf⟩ := pf_e hf
    refine c_renG ega7 ?_
    refine x_aload_n C dX1_keep_74 0 rfl ?_
    refine x_dup C dX1_keep_75 rfl ?_
    obtain ⟨t8, hf⟩ := pf_ch hf
    refine cg1_13 C B t8 (flo C q632) fsm dX1_keep_76 ?_
    refine x_iconst (1 : Int32) C dX1_keep_79 (by decide) ?_
    refine x_isub C dX1_keep_80 ?_
    refine cp1_13 C B t8 (flo C q632) fsm dX1_keep_81 ?_
    obtain ⟨da9, eda9, hf⟩ := pf_e hf
    refine c_ren eda9 ?_
    exact w_X1_keep_84 n C B hrt dK hQ x0 y0 _ _ _ _ _ _ (by omega) (by omega) hf
def f_X1_keep (n : Nat) (x0 : Nat) (g : CG) (d : CD) : Option (SR Unit) := if ht g x0 = 1 then if (hi d x0 13) = (8 : Int32) then ((hr g x0 12).bind fun p16 => if ht g p16 = 104 then if inb (0 : Int32) (hn g p16) = true then (hr g p16 (Int32.toNatClampNeg (0 : Int32))).bind fun p19 => f_X1_keep_L49 n x0 p19 g d else none else none) else ((hr g x0 12).bind fun p3 => if ht g p3 = 104 then if inb (hi d x0 13) (hn g p3) = true then optc (hr g p3 (Int32.toNatClampNeg (hi d x0 13))) (tick 1 7 (ev (hz g) fun q7 => ev (nd d q7) fun da9 => ev (na g 4 0) fun ga8 => (f_X4_init n q7 ga8 da9).bind fun r12 => tick r12.2.2.2.1 r12.2.2.2.2 (f_X1_keep_L49 n x0 q7 r12.2.1 r12.2.2.1))) (fun p6 => (hr g p3 (Int32.toNatClampNeg (hi d x0 13))).bind fun p15 => f_X1_keep_L49 n x0 p15 g d) else none else none) else none
set_option maxHeartbeats 4000000 in
theorem w_X1_keep_E {K : KT} {T : CT} {r : Unit} {g9 : CG} {d9 : CD} {c1 s1 : Nat} (n : Nat) (C : Kok K cX1_keep 2 RX1) (B : CB K T) (hrt : (kMe K).sig.returnType = none) (dK : kR K = rmC 5 c1 s1) (hQ : KQc K T none c1 s1 g9 d9) (x0 : Nat) (g : CG) (d : CD) (c0 s0 k m9 : Nat) (hc : c1 = c0 + k) (hs : s1 = s0 + m9) (hf : f_X1_keep n x0 g d = some (r, g9, d9, k, m9)) : XJ K 2 (Wc K T c0 s0 g d) 0 [(0, .ref x0)] [] := by
  unfold f_X1_keep at hf
  refine x_aload_n C dX1_keep_0 0 rfl ?_
  obtain ⟨t1, hf⟩ := pf_ch hf
  refine cg1_13 C B t1 (flo C q632) fsm dX1_keep_1 ?_
  refine x_bipush (8 : Int32) C dX1_keep_4 (by decide) ?_
  refine x_icmp_ne (tgt := 18) C dX1_keep_6 (by decide) (fun w2 => ?_) (fun w2 => ?_)
  · have hf := pf_f w2 hf
    refine x_aload_n C dX1_keep_18 0 rfl ?_
    obtain ⟨p3, ep3, hf⟩ := pf_b hf
    refine cg1_12 C B t1 (flo C q631) fsm ep3 dX1_keep_19 ?_
    refine x_aload_n C dX1_keep_22 0 rfl ?_
    refine cg1_13 C B t1 (flo C q632) fsm dX1_keep_23 ?_
    obtain ⟨t4, hf⟩ := pf_ch hf
    obtain ⟨h5, hf⟩ := pf_in hf
    rcases ep6 : hr g p3 (Int32.toNatClampNeg (hi d x0 13)) with _ | p6
    · have hf := pf_on ep6 hf
      refine ca_aldn4 C B t4 h5 ep6 dX1_keep_26 ?_
      refine x_ifnonnullN C dX1_keep_27 ?_
      obtain ⟨j10, i11, ej10, ei11, hf⟩ := pf_tk hf
      refine c_new4 C B q396 dK (by omega) dX1_keep_30 ?_
      obtain ⟨q7, eq7, hf⟩ := pf_e hf
      refine x_toprr eq7 ?_
      obtain ⟨da9, eda9, hf⟩ := pf_e hf
      obtain ⟨ga8, ega8, hf⟩ := pf_e hf
      rw [← eq7, ← eda9, ← ega8]
      refine x_dup C dX1_keep_33 rfl ?_
      obtain ⟨r12, er12, hf⟩ := pf_b hf
      obtain ⟨j13, i14, ej13, ei14, hf⟩ := pf_tk hf
      refine k_X4_init_X1 C B dK (Nat.le_of_ble_eq_true rfl) (by omega) er12 (Nat.le_of_ble_eq_true rfl) dX1_keep_34 ?_
      refine x_goto (tgt := 49) C dX1_keep_37 (by decide) ?_
      exact w_X1_keep_49 n C B hrt dK hQ x0 q7 _ _ _ _ _ _ (by omega) (by omega) hf
    · have hf := pf_os ep6 hf
      refine ca_ald4 C B t4 h5 ep6 dX1_keep_26 ?_
      refine x_ifnonnull (tgt := 40) C dX1_keep_27 (by decide) ?_
      refine x_aload_n C dX1_keep_40 0 rfl ?_
      refine cg1_12 C B t1 (flo C q631) fsm ep3 dX1_keep_41 ?_
      refine x_aload_n C dX1_keep_44 0 rfl ?_
      refine cg1_13 C B t1 (flo C q632) fsm dX1_keep_45 ?_
      obtain ⟨p15, ep15, hf⟩ := pf_b hf
      refine ca_ald4 C B t4 h5 ep15 dX1_keep_48 ?_
      exact w_X1_keep_49 n C B hrt dK hQ x0 p15 _ _ _ _ _ _ (by omega) (by omega) hf
  · have hf := pf_t w2 hf
    refine x_aload_n C dX1_keep_9 0 rfl ?_
    obtain ⟨p16, ep16, hf⟩ := pf_b hf
    refine cg1_12 C B t1 (flo C q631) fsm ep16 dX1_keep_10 ?_
    refine x_iconst (0 : Int32) C dX1_keep_13 (by decide) ?_
    obtain ⟨t17, hf⟩ := pf_ch hf
    obtain ⟨h18, hf⟩ := pf_in hf
    obtain ⟨p19, ep19, hf⟩ := pf_b hf
    refine ca_ald4 C B t17 h18 ep19 dX1_keep_14 ?_
    refine x_goto (tgt := 49) C dX1_keep_15 (by decide) ?_
    exact w_X1_keep_49 n C B hrt dK hQ x0 p19 _ _ _ _ _ _ (by omega) (by omega) hf
theorem met_X1_keep {T : CT} {v : (SR Unit)} {n : Nat} {g : CG} {d : CD} {x0 : Nat} {l : Launch} (hf : f_X1_keep n x0 g d = some v) : Met l yX1_keep (ws_ yX1_keep cX1_keep 2 none) (rmC 5 v.2.2.2.1 v.2.2.2.2) (va_Pc [.ref x0] (CU T g d)) (Qc T none v.2.1 v.2.2.1) v.2.2.2.1 v.2.2.2.2 (cA T) :=
  c_metS [.ref x0] RX1 (by decide) rfl (Nat.le_of_ble_eq_true rfl) (fun K hl hR hrt hnm C B hQ => w_X1_keep_E n C B hrt hR hQ _ _ _ 0 0 _ _ (Nat.zero_add _).symm (Nat.zero_add _).symm hf)
theorem k_X4_whyMove_X1 {K : KT} {T : CT} {c0 s0 c1 s1 dk : Nat} {cc : ByteArray} {nL pc : Nat} {L : List (Nat × Value)} {rest : List Value} {g : CG} {d : CD} {v : Int32} {n : Nat} {x0 : Nat} {x1 : Nat} {x2 : Int32} {x3 : Int32} (C : Kok K cc nL RX1) (B : CB K T) (hta : ht g x0 = 4) (dK : kR K = rmC dk c1 s1) (hd : 3 + 1 ≤ dk) (hcs : c0 + 0 ≤ c1 ∧ s0 + 0 ≤ s1) (hf : f_X4_whyMove n g d x0 x1 x2 x3 = some v) (hW : (rest.map fun v => v.category).sum ≤ 8) (dd : decode cc pc = .ok (.invokevirtual 326, 3)) (kk2 : XJ K nL (Wc K T c0 s0 g d) (pc + 3) L ((.int v) :: rest)) : XJ K nL (Wc K T c0 s0 g d) pc L (.int x3 :: .int x2 :: .ref x1 :: .ref x0 :: rest) :=
  c_callV (rest := rest) (v := (some (.int v))) [.ref x1, .int x2, .int x3] 3 rfl C B hta (by decide) (by decide) rfl dK hd (Nat.le_of_ble_eq_true rfl) hcs (lw_V q1046 q1047 q1048 q126 q1049) (by decide +kernel) (met_X4_whyMove hf) rfl hW dd kk2
theorem k_X1_keep_X1 {K : KT} {T : CT} {c0 s0 c1 s1 dk : Nat} {cc : ByteArray} {nL pc : Nat} {L : List (Nat × Value)} {rest : List Value} {g : CG} {d : CD} {v : (SR Unit)} {n : Nat} {x0 : Nat} (C : Kok K cc nL RX1) (B : CB K T) (hta : ht g x0 = 1) (dK : kR K = rmC dk c1 s1) (hd : 5 + 1 ≤ dk) (hcs : c0 + v.2.2.2.1 ≤ c1 ∧ s0 + v.2.2.2.2 ≤ s1) (hf : f_X1_keep n x0 g d = some v) (hW : (rest.map fun v => v.category).sum ≤ 8) (dd : decode cc pc = .ok (.invokevirtual 329, 3)) (kk2 : XJ K nL (Wc K T (c0 + v.2.2.2.1) (s0 + v.2.2.2.2) v.2.1 v.2.2.1) (pc + 3) L (rest)) : XJ K nL (Wc K T c0 s0 g d) pc L (.ref x0 :: rest) := by
  exact c_callV (rest := rest) (v := none) [] 0 rfl C B hta (by decide) (by decide) rfl dK hd (Nat.le_of_ble_eq_true rfl) hcs (lw_V q1051 q1053 qs13 q121 q1054) (by decide +kernel) (met_X1_keep hf) rfl hW dd kk2
def f_X1_move (n : Nat) (x0 : Nat) (x1 : Int32) (x2 : Int32) (g : CG) (d : CD) : Option (SR Int32) := if ht g x0 = 1 then (f_X1_isStatue g d x0 x1).bind fun r2 => if r2 = 0 then (some ((-1 : Int32), g, d, 0, 0)) else ((f_X1_isSquare g d x0 x2).bind fun r4 => if r4 = 0 then (some ((-1 : Int32), g, d, 0, 0)) else ((hr g x0 7).bind fun p6 => (hr g x0 6).bind fun p7 => if ht g p6 = 4 then (f_X4_whyMove n g d p6 p7 x1 x2).bind fun r9 => if r9 = 0 then ((f_X1_keep n x0 g d).bind fun r11 => tick r11.2.2.2.1 r11.2.2.2.2 (if ht r11.2.1 x0 = 1 then (hr r11.2.1 x0 7).bind fun p15 => if ht r11.2.1 p15 = 4 then (hr r11.2.1 p15 0).bind fun p17 => if ht r11.2.1 p17 = 105 then if inb x1 (hn r11.2.1 p17) = true then (hr r11.2.1 p17 (Int32.toNatClampNeg x1)).bind fun p20 => if ht r11.2.1 p20 = 5 then ev (wi r11.2.2.1 p20 1 x2) fun da22 => some ((0 : Int32), r11.2.1, da22, 0, 0) else none else none else none else none else none)) else (some (r9, g, d, 0, 0)) else none)) else none
set_option maxHeartbeats 4000000 in
theorem w_X1_move_E {K : KT} {T : CT} {r : Int32} {g9 : CG} {d9 : CD} {c1 s1 : Nat} (n : Nat) (C : Kok K cX1_move 4 RX1) (B : CB K T) (hrt : (kMe K).sig.returnType = (some .int)) (dK : kR K = rmC 6 c1 s1) (hQ : KQc K T (some (.int r)) c1 s1 g9 d9) (x0 : Nat) (x1 : Int32) (x2 : Int32) (g : CG) (d : CD) (c0 s0 k m9 : Nat) (hc : c1 = c0 + k) (hs : s1 = s0 + m9) (hf : f_X1_move n x0 x1 x2 g d = some (r, g9, d9, k, m9)) : XJ K 4 (Wc K T c0 s0 g d) 0 [(0, .ref x0), (1, .int x1), (2, .int x2)] [] := by
  unfold f_X1_move at hf
  refine x_aload_n C dX1_move_0 0 rfl ?_
  refine x_iload_n C dX1_move_1 1 rfl ?_
  obtain ⟨t1, hf⟩ := pf_ch hf
  obtain ⟨r2, er2, hf⟩ := pf_b hf
  refine k_X1_isStatue_X1 C B t1 dK (Nat.le_of_ble_eq_true rfl) (by omega) er2 (Nat.le_of_ble_eq_true rfl) dX1_move_2 ?_
  refine x_if_eq (tgt := 16) C dX1_move_5 (by decide) (fun w3 => ?_) (fun w3 => ?_)
  · have hf := pf_t w3 hf
    refine x_iconst (-1 : Int32) C dX1_move_16 (by decide) ?_
    obtain ⟨rfl, rfl, rfl, rfl, rfl⟩ := sr_inj hf
    refine c_cs (c0 := c1) (s0 := s1) (by omega) (by omega) ?_
    exact c_iret C hrt hQ dX1_move_17
  · have hf := pf_f w3 hf
    refine x_aload_n C dX1_move_8 0 rfl ?_
    refine x_iload_n C dX1_move_9 2 rfl ?_
    obtain ⟨r4, er4, hf⟩ := pf_b hf
    refine k_X1_isSquare_X1 C B t1 dK (Nat.le_of_ble_eq_true rfl) (by omega) er4 (Nat.le_of_ble_eq_true rfl) dX1_move_10 ?_
    refine x_if_ne (tgt := 18) C dX1_move_13 (by decide) (fun w5 => ?_) (fun w5 => ?_)
    · have hf := pf_f w5 hf
      refine x_aload_n C dX1_move_18 0 rfl ?_
      obtain ⟨p6, ep6, hf⟩ := pf_b hf
      refine cg1_7 C B t1 (flo C q624) fsm ep6 dX1_move_19 ?_
      refine x_aload_n C dX1_move_22 0 rfl ?_
      obtain ⟨p7, ep7, hf⟩ := pf_b hf
      refine cg1_6 C B t1 (flo C q621) fsm ep7 dX1_move_23 ?_
      refine x_iload_n C dX1_move_26 1 rfl ?_
      refine x_iload_n C dX1_move_27 2 rfl ?_
      obtain ⟨t8, hf⟩ := pf_ch hf
      obtain ⟨r9, er9, hf⟩ := pf_b hf
      refine k_X4_whyMove_X1 C B t8 dK (Nat.le_of_ble_eq_true rfl) (by omega) er9 (Nat.le_of_ble_eq_true rfl) dX1_move_28 ?_
      refine x_istore_n (L' := [(0, .ref x0), (1, .int x1), (2, .int x2), (3, .int r9)]) C dX1_move_31 (Nat.le_of_ble_eq_true rfl) [1, 2, 3, 0] rfl ?_
      refine x_iload_n C dX1_move_32 3 rfl ?_
      refine x_if_eq (tgt := 38) C dX1_move_33 (by decide) (fun w10 => ?_) (fun w10 => ?_)
      · have hf := pf_t w10 hf
        refine x_aload_n C dX1_move_38 0 rfl ?_
        obtain ⟨r11, er11, hf⟩ := pf_b hf
        obtain ⟨j12, i13, ej12, ei13, hf⟩ := pf_tk hf
        refine k_X1_keep_X1 C B t1 dK (Nat.le_of_ble_eq_true rfl) (by omega) er11 (Nat.le_of_ble_eq_true rfl) dX1_move_39 ?_
        refine x_aload_n C dX1_move_42 0 rfl ?_
        obtain ⟨t14, hf⟩ := pf_ch hf
        obtain ⟨p15, ep15, hf⟩ := pf_b hf
        refine cg1_7 C B t14 (flo C q624) fsm ep15 dX1_move_43 ?_
        obtain ⟨t16, hf⟩ := pf_ch hf
        obtain ⟨p17, ep17, hf⟩ := pf_b hf
        refine cg4_0 C B t16 (fln B q451) fsm ep17 dX1_move_46 ?_
        refine x_iload_n C dX1_move_49 1 rfl ?_
        obtain ⟨t18, hf⟩ := pf_ch hf
        obtain ⟨h19, hf⟩ := pf_in hf
        obtain ⟨p20, ep20, hf⟩ := pf_b hf
        refine ca_ald5 C B t18 h19 ep20 dX1_move_50 ?_
        refine x_iload_n C dX1_move_51 2 rfl ?_
        obtain ⟨t21, hf⟩ := pf_ch hf
        refine cp5_1 C B t21 (fln B q417) fsm dX1_move_52 ?_
        obtain ⟨da22, eda22, hf⟩ := pf_e hf
        refine c_ren eda22 ?_
        refine x_iconst (0 : Int32) C dX1_move_55 (by decide) ?_
        obtain ⟨rfl, rfl, rfl, rfl, rfl⟩ := sr_inj hf
        refine c_cs (c0 := c1) (s0 := s1) (by omega) (by omega) ?_
        exact c_iret C hrt hQ dX1_move_56
      · have hf := pf_f w10 hf
        refine x_iload_n C dX1_move_36 3 rfl ?_
        obtain ⟨rfl, rfl, rfl, rfl, rfl⟩ := sr_inj hf
        refine c_cs (c0 := c1) (s0 := s1) (by omega) (by omega) ?_
        exact c_iret C hrt hQ dX1_move_37
    · have hf := pf_t w5 hf
      refine x_iconst (-1 : Int32) C dX1_move_16 (by decide) ?_
      obtain ⟨rfl, rfl, rfl, rfl, rfl⟩ := sr_inj hf
      refine c_cs (c0 := c1) (s0 := s1) (by omega) (by omega) ?_
      exact c_iret C hrt hQ dX1_move_17
theorem met_X1_move {T : CT} {v : (SR Int32)} {n : Nat} {g : CG} {d : CD} {x0 : Nat} {x1 : Int32} {x2 : Int32} {l : Launch} (hf : f_X1_move n x0 x1 x2 g d = some v) : Met l yX1_move (ws_ yX1_move cX1_move 4 (some .int)) (rmC 6 v.2.2.2.1 v.2.2.2.2) (va_Pc [.ref x0, .int x1, .int x2] (CU T g d)) (Qc T (some (.int v.1)) v.2.1 v.2.2.1) v.2.2.2.1 v.2.2.2.2 (cA T) :=
  c_metS [.ref x0, .int x1, .int x2] RX1 (by decide) rfl (Nat.le_of_ble_eq_true rfl) (fun K hl hR hrt hnm C B hQ => w_X1_move_E n C B hrt hR hQ _ _ _ _ _ 0 0 _ _ (Nat.zero_add _).symm (Nat.zero_add _).symm hf)
theorem k_X4_whyClean_X1 {K : KT} {T : CT} {c0 s0 c1 s1 dk : Nat} {cc : ByteArray} {nL pc : Nat} {L : List (Nat × Value)} {rest : List Value} {g : CG} {d : CD} {v : Int32} {x0 : Nat} {x1 : Int32} (C : Kok K cc nL RX1) (B : CB K T) (hta : ht g x0 = 4) (dK : kR K = rmC dk c1 s1) (hd : 3 + 1 ≤ dk) (hcs : c0 + 0 ≤ c1 ∧ s0 + 0 ≤ s1) (hf : f_X4_whyClean g d x0 x1 = some v) (hW : (rest.map fun v => v.category).sum ≤ 8) (dd : decode cc pc = .ok (.invokevirtual 332, 3)) (kk2 : XJ K nL (Wc K T c0 s0 g d) (pc + 3) L ((.int v) :: rest)) : XJ K nL (Wc K T c0 s0 g d) pc L (.int x1 :: .ref x0 :: rest) :=
  c_callV (rest := rest) (v := (some (.int v))) [.int x1] 1 rfl C B hta (by decide) (by decide) rfl dK hd (Nat.le_of_ble_eq_true rfl) hcs (lw_V q1060 q1061 q1062 q126 q1063) (by decide +kernel) (met_X4_whyClean hf) rfl hW dd kk2
theorem k_X4_clean_X1 {K : KT} {T : CT} {c0 s0 c1 s1 dk : Nat} {cc : ByteArray} {nL pc : Nat} {L : List (Nat × Value)} {rest : List Value} {g : CG} {d : CD} {v : CD} {x0 : Nat} {x1 : Int32} (C : Kok K cc nL RX1) (B : CB K T) (hta : ht g x0 = 4) (dK : kR K = rmC dk c1 s1) (hd : 2 + 1 ≤ dk) (hcs : c0 + 0 ≤ c1 ∧ s0 + 0 ≤ s1) (hf : f_X4_clean g x0 x1 d = some v) (hW : (rest.map fun v => v.category).sum ≤ 8) (dd : decode cc pc = .ok (.invokevirtual 335, 3)) (kk2 : XJ K nL (Wc K T c0 s0 g v) (pc + 3) L (rest)) : XJ K nL (Wc K T c0 s0 g d) pc L (.int x1 :: .ref x0 :: rest) :=
  c_callV (rest := rest) (v := none) [.int x1] 1 rfl C B hta (by decide) (by decide) rfl dK hd (Nat.le_of_ble_eq_true rfl) hcs (lw_V q1064 q1065 q1066 q126 q1067) (by decide +kernel) (met_X4_clean hf) rfl hW dd kk2
def f_X1_clean (n : Nat) (x0 : Nat) (x1 : Int32) (g : CG) (d : CD) : Option (SR Int32) := if ht g x0 = 1 then (f_X1_isStatue g d x0 x1).bind fun r2 => if r2 = 0 then (some ((-1 : Int32), g, d, 0, 0)) else ((hr g x0 7).bind fun p4 => if ht g p4 = 4 then (f_X4_whyClean g d p4 x1).bind fun r6 => if r6 = 0 then ((f_X1_keep n x0 g d).bind fun r8 => tick r8.2.2.2.1 r8.2.2.2.2 (if ht r8.2.1 x0 = 1 then (hr r8.2.1 x0 7).bind fun p12 => if ht r8.2.1 p12 = 4 then (f_X4_clean r8.2.1 p12 x1 r8.2.2.1).bind fun r14 => some ((0 : Int32), r8.2.1, r14, 0, 0) else none else none)) else (some (r6, g, d, 0, 0)) else none) else none
set_option maxHeartbeats 4000000 in
theorem w_X1_clean_E {K : KT} {T : CT} {r : Int32} {g9 : CG} {d9 : CD} {c1 s1 : Nat} (n : Nat) (C : Kok K cX1_clean 3 RX1) (B : CB K T) (hrt : (kMe K).sig.returnType = (some .int)) (dK : kR K = rmC 6 c1 s1) (hQ : KQc K T (some (.int r)) c1 s1 g9 d9) (x0 : Nat) (x1 : Int32) (g : CG) (d : CD) (c0 s0 k m9 : Nat) (hc : c1 = c0 + k) (hs : s1 = s0 + m9) (hf : f_X1_clean n x0 x1 g d = some (r, g9, d9, k, m9)) : XJ K 3 (Wc K T c0 s0 g d) 0 [(0, .ref x0), (1, .int x1)] [] := by
  unfold f_X1_clean at hf
  refine x_aload_n C dX1_clean_0 0 rfl ?_
  refine x_iload_n C dX1_clean_1 1 rfl ?_
  obtain ⟨t1, hf⟩ := pf_ch hf
  obtain ⟨r2, er2, hf⟩ := pf_b hf
  refine k_X1_isStatue_X1 C B t1 dK (Nat.le_of_ble_eq_true rfl) (by omega) er2 (Nat.le_of_ble_eq_true rfl) dX1_clean_2 ?_
  refine x_if_ne (tgt := 10) C dX1_clean_5 (by decide) (fun w3 => ?_) (fun w3 => ?_)
  · have hf := pf_f w3 hf
    refine x_aload_n C dX1_clean_10 0 rfl ?_
    obtain ⟨p4, ep4, hf⟩ := pf_b hf
    refine cg1_7 C B t1 (flo C q624) fsm ep4 dX1_clean_11 ?_
    refine x_iload_n C dX1_clean_14 1 rfl ?_
    obtain ⟨t5, hf⟩ := pf_ch hf
    obtain ⟨r6, er6, hf⟩ := pf_b hf
    refine k_X4_whyClean_X1 C B t5 dK (Nat.le_of_ble_eq_true rfl) (by omega) er6 (Nat.le_of_ble_eq_true rfl) dX1_clean_15 ?_
    refine x_istore_n (L' := [(0, .ref x0), (1, .int x1), (2, .int r6)]) C dX1_clean_18 (Nat.le_of_ble_eq_true rfl) [1, 2, 0] rfl ?_
    refine x_iload_n C dX1_clean_19 2 rfl ?_
    refine x_if_eq (tgt := 25) C dX1_clean_20 (by decide) (fun w7 => ?_) (fun w7 => ?_)
    · have hf := pf_t w7 hf
      refine x_aload_n C dX1_clean_25 0 rfl ?_
      obtain ⟨r8, er8, hf⟩ := pf_b hf
      obtain ⟨j9, i10, ej9, ei10, hf⟩ := pf_tk hf
      refine k_X1_keep_X1 C B t1 dK (Nat.le_of_ble_eq_true rfl) (by omega) er8 (Nat.le_of_ble_eq_true rfl) dX1_clean_26 ?_
      refine x_aload_n C dX1_clean_29 0 rfl ?_
      obtain ⟨t11, hf⟩ := pf_ch hf
      obtain ⟨p12, ep12, hf⟩ := pf_b hf
      refine cg1_7 C B t11 (flo C q624) fsm ep12 dX1_clean_30 ?_
      refine x_iload_n C dX1_clean_33 1 rfl ?_
      obtain ⟨t13, hf⟩ := pf_ch hf
      obtain ⟨r14, er14, hf⟩ := pf_b hf
      refine k_X4_clean_X1 C B t13 dK (Nat.le_of_ble_eq_true rfl) (by omega) er14 (Nat.le_of_ble_eq_true rfl) dX1_clean_34 ?_
      refine x_iconst (0 : Int32) C dX1_clean_37 (by decide) ?_
      obtain ⟨rfl, rfl, rfl, rfl, rfl⟩ := sr_inj hf
      refine c_cs (c0 := c1) (s0 := s1) (by omega) (by omega) ?_
      exact c_iret C hrt hQ dX1_clean_38
    · have hf := pf_f w7 hf
      refine x_iload_n C dX1_clean_23 2 rfl ?_
      obtain ⟨rfl, rfl, rfl, rfl, rfl⟩ := sr_inj hf
      refine c_cs (c0 := c1) (s0 := s1) (by omega) (by omega) ?_
      exact c_iret C hrt hQ dX1_clean_24
  · have hf := pf_t w3 hf
    refine x_iconst (-1 : Int32) C dX1_clean_8 (by decide) ?_
    obtain ⟨rfl, rfl, rfl, rfl, rfl⟩ := sr_inj hf
    refine c_cs (c0 := c1) (s0 := s1) (by omega) (by omega) ?_
    exact c_iret C hrt hQ dX1_clean_9
theorem met_X1_clean {T : CT} {v : (SR Int32)} {n : Nat} {g : CG} {d : CD} {x0 : Nat} {x1 : Int32} {l : Launch} (hf : f_X1_clean n x0 x1 g d = some v) : Met l yX1_clean (ws_ yX1_clean cX1_clean 3 (some .int)) (rmC 6 v.2.2.2.1 v.2.2.2.2) (va_Pc [.ref x0, .int x1] (CU T g d)) (Qc T (some (.int v.1)) v.2.1 v.2.2.1) v.2.2.2.1 v.2.2.2.2 (cA T) :=
  c_metS [.ref x0, .int x1] RX1 (by decide) rfl (Nat.le_of_ble_eq_true rfl) (fun K hl hR hrt hnm C B hQ => w_X1_clean_E n C B hrt hR hQ _ _ _ _ 0 0 _ _ (Nat.zero_add _).symm (Nat.zero_add _).symm hf)
theorem k_X4_whyShow_X1 {K : KT} {T : CT} {c0 s0 c1 s1 dk : Nat} {cc : ByteArray} {nL pc : Nat} {L : List (Nat × Value)} {rest : List Value} {g : CG} {d : CD} {v : Int32} {x0 : Nat} {x1 : Int32} {x2 : Int32} (C : Kok K cc nL RX1) (B : CB K T) (hta : ht g x0 = 4) (dK : kR K = rmC dk c1 s1) (hd : 3 + 1 ≤ dk) (hcs : c0 + 0 ≤ c1 ∧ s0 + 0 ≤ s1) (hf : f_X4_whyShow g d x0 x1 x2 = some v) (hW : (rest.map fun v => v.category).sum ≤ 8) (dd : decode cc pc = .ok (.invokevirtual 338, 3)) (kk2 : XJ K nL (Wc K T c0 s0 g d) (pc + 3) L ((.int v) :: rest)) : XJ K nL (Wc K T c0 s0 g d) pc L (.int x2 :: .int x1 :: .ref x0 :: rest) :=
  c_callV (rest := rest) (v := (some (.int v))) [.int x1, .int x2] 2 rfl C B hta (by decide) (by decide) rfl dK hd (Nat.le_of_ble_eq_true rfl) hcs (lw_V q1072 q1073 q1074 q126 q1075) (by decide +kernel) (met_X4_whyShow hf) rfl hW dd kk2
theorem k_X4_show_X1 {K : KT} {T : CT} {c0 s0 c1 s1 dk : Nat} {cc : ByteArray} {nL pc : Nat} {L : List (Nat × Value)} {rest : List Value} {g : CG} {d : CD} {v : CD} {x0 : Nat} {x1 : Int32} {x2 : Int32} (C : Kok K cc nL RX1) (B : CB K T) (hta : ht g x0 = 4) (dK : kR K = rmC dk c1 s1) (hd : 2 + 1 ≤ dk) (hcs : c0 + 0 ≤ c1 ∧ s0 + 0 ≤ s1) (hf : f_X4_show g x0 x1 x2 d = some v) (hW : (rest.map fun v => v.category).sum ≤ 8) (dd : decode cc pc = .ok (.invokevirtual 341, 3)) (kk2 : XJ K nL (Wc K T c0 s0 g v) (pc + 3) L (rest)) : XJ K nL (Wc K T c0 s0 g d) pc L (.int x2 :: .int x1 :: .ref x0 :: rest) :=
  c_callV (rest := rest) (v := none) [.int x1, .int x2] 2 rfl C B hta (by decide) (by decide) rfl dK hd (Nat.le_of_ble_eq_true rfl) hcs (lw_V q1076 q1077 q1078 q126 q1079) (by decide +kernel) (met_X4_show hf) rfl hW dd kk2
def f_X1_show (n : Nat) (x0 : Nat) (x1 : Int32) (x2 : Int32) (g : CG) (d : CD) : Option (SR Int32) := if ht g x0 = 1 then (f_X1_isStatue g d x0 x1).bind fun r2 => if r2 = 0 then (some ((-1 : Int32), g, d, 0, 0)) else ((f_X1_isKind g d x0 x2).bind fun r4 => if r4 = 0 then (some ((-1 : Int32), g, d, 0, 0)) else ((hr g x0 7).bind fun p6 => if ht g p6 = 4 then (f_X4_whyShow g d p6 x1 x2).bind fun r8 => if r8 = 0 then ((f_X1_keep n x0 g d).bind fun r10 => tick r10.2.2.2.1 r10.2.2.2.2 (if ht r10.2.1 x0 = 1 then (hr r10.2.1 x0 7).bind fun p14 => if ht r10.2.1 p14 = 4 then (f_X4_show r10.2.1 p14 x1 x2 r10.2.2.1).bind fun r16 => some ((0 : Int32), r10.2.1, r16, 0, 0) else none else none)) else (some (r8, g, d, 0, 0)) else none)) else none
set_option maxHeartbeats 4000000 in
theorem w_X1_show_E {K : KT} {T : CT} {r : Int32} {g9 : CG} {d9 : CD} {c1 s1 : Nat} (n : Nat) (C : Kok K cX1_show 4 RX1) (B : CB K T) (hrt : (kMe K).sig.returnType = (some .int)) (dK : kR K = rmC 6 c1 s1) (hQ : KQc K T (some (.int r)) c1 s1 g9 d9) (x0 : Nat) (x1 : Int32) (x2 : Int32) (g : CG) (d : CD) (c0 s0 k m9 : Nat) (hc : c1 = c0 + k) (hs : s1 = s0 + m9) (hf : f_X1_show n x0 x1 x2 g d = some (r, g9, d9, k, m9)) : XJ K 4 (Wc K T c0 s0 g d) 0 [(0, .ref x0), (1, .int x1), (2, .int x2)] [] := by
  unfold f_X1_show at hf
  refine x_aload_n C dX1_show_0 0 rfl ?_
  refine x_iload_n C dX1_show_1 1 rfl ?_
  obtain ⟨t1, hf⟩ := pf_ch hf
  obtain ⟨r2, er2, hf⟩ := pf_b hf
  refine k_X1_isStatue_X1 C B t1 dK (Nat.le_of_ble_eq_true rfl) (by omega) er2 (Nat.le_of_ble_eq_true rfl) dX1_show_2 ?_
  refine x_if_eq (tgt := 16) C dX1_show_5 (by decide) (fun w3 => ?_) (fun w3 => ?_)
  · have hf := pf_t w3 hf
    refine x_iconst (-1 : Int32) C dX1_show_16 (by decide) ?_
    obtain ⟨rfl, rfl, rfl, rfl, rfl⟩ := sr_inj hf
    refine c_cs (c0 := c1) (s0 := s1) (by omega) (by omega) ?_
    exact c_iret C hrt hQ dX1_show_17
  · have hf := pf_f w3 hf
    refine x_aload_n C dX1_show_8 0 rfl ?_
    refine x_iload_n C dX1_show_9 2 rfl ?_
    obtain ⟨r4, er4, hf⟩ := pf_b hf
    refine k_X1_isKind_X1 C B t1 dK (Nat.le_of_ble_eq_true rfl) (by omega) er4 (Nat.le_of_ble_eq_true rfl) dX1_show_10 ?_
    refine x_if_ne (tgt := 18) C dX1_show_13 (by decide) (fun w5 => ?_) (fun w5 => ?_)
    · have hf := pf_f w5 hf
      refine x_aload_n C dX1_show_18 0 rfl ?_
      obtain ⟨p6, ep6, hf⟩ := pf_b hf
      refine cg1_7 C B t1 (flo C q624) fsm ep6 dX1_show_19 ?_
      refine x_iload_n C dX1_show_22 1 rfl ?_
      refine x_iload_n C dX1_show_23 2 rfl ?_
      obtain ⟨t7, hf⟩ := pf_ch hf
      obtain ⟨r8, er8, hf⟩ := pf_b hf
      refine k_X4_whyShow_X1 C B t7 dK (Nat.le_of_ble_eq_true rfl) (by omega) er8 (Nat.le_of_ble_eq_true rfl) dX1_show_24 ?_
      refine x_istore_n (L' := [(0, .ref x0), (1, .int x1), (2, .int x2), (3, .int r8)]) C dX1_show_27 (Nat.le_of_ble_eq_true rfl) [1, 2, 3, 0] rfl ?_
      refine x_iload_n C dX1_show_28 3 rfl ?_
      refine x_if_eq (tgt := 34) C dX1_show_29 (by decide) (fun w9 => ?_) (fun w9 => ?_)
      · have hf := pf_t w9 hf
        refine x_aload_n C dX1_show_34 0 rfl ?_
        obtain ⟨r10, er10, hf⟩ := pf_b hf
        obtain ⟨j11, i12, ej11, ei12, hf⟩ := pf_tk hf
        refine k_X1_keep_X1 C B t1 dK (Nat.le_of_ble_eq_true rfl) (by omega) er10 (Nat.le_of_ble_eq_true rfl) dX1_show_35 ?_
        refine x_aload_n C dX1_show_38 0 rfl ?_
        obtain ⟨t13, hf⟩ := pf_ch hf
        obtain ⟨p14, ep14, hf⟩ := pf_b hf
        refine cg1_7 C B t13 (flo C q624) fsm ep14 dX1_show_39 ?_
        refine x_iload_n C dX1_show_42 1 rfl ?_
        refine x_iload_n C dX1_show_43 2 rfl ?_
        obtain ⟨t15, hf⟩ := pf_ch hf
        obtain ⟨r16, er16, hf⟩ := pf_b hf
        refine k_X4_show_X1 C B t15 dK (Nat.le_of_ble_eq_true rfl) (by omega) er16 (Nat.le_of_ble_eq_true rfl) dX1_show_44 ?_
        refine x_iconst (0 : Int32) C dX1_show_47 (by decide) ?_
        obtain ⟨rfl, rfl, rfl, rfl, rfl⟩ := sr_inj hf
        refine c_cs (c0 := c1) (s0 := s1) (by omega) (by omega) ?_
        exact c_iret C hrt hQ dX1_show_48
      · have hf := pf_f w9 hf
        refine x_iload_n C dX1_show_32 3 rfl ?_
        obtain ⟨rfl, rfl, rfl, rfl, rfl⟩ := sr_inj hf
        refine c_cs (c0 := c1) (s0 := s1) (by omega) (by omega) ?_
        exact c_iret C hrt hQ dX1_show_33
    · have hf := pf_t w5 hf
      refine x_iconst (-1 : Int32) C dX1_show_16 (by decide) ?_
      obtain ⟨rfl, rfl, rfl, rfl, rfl⟩ := sr_inj hf
      refine c_cs (c0 := c1) (s0 := s1) (by omega) (by omega) ?_
      exact c_iret C hrt hQ dX1_show_17
theorem met_X1_show {T : CT} {v : (SR Int32)} {n : Nat} {g : CG} {d : CD} {x0 : Nat} {x1 : Int32} {x2 : Int32} {l : Launch} (hf : f_X1_show n x0 x1 x2 g d = some v) : Met l yX1_show (ws_ yX1_show cX1_show 4 (some .int)) (rmC 6 v.2.2.2.1 v.2.2.2.2) (va_Pc [.ref x0, .int x1, .int x2] (CU T g d)) (Qc T (some (.int v.1)) v.2.1 v.2.2.1) v.2.2.2.1 v.2.2.2.2 (cA T) :=
  c_metS [.ref x0, .int x1, .int x2] RX1 (by decide) rfl (Nat.le_of_ble_eq_true rfl) (fun K hl hR hrt hnm C B hQ => w_X1_show_E n C B hrt hR hQ _ _ _ _ _ 0 0 _ _ (Nat.zero_add _).symm (Nat.zero_add _).symm hf)
theorem k_X4_whyLend_X1 {K : KT} {T : CT} {c0 s0 c1 s1 dk : Nat} {cc : ByteArray} {nL pc : Nat} {L : List (Nat × Value)} {rest : List Value} {g : CG} {d : CD} {v : Int32} {x0 : Nat} {x1 : Int32} {x2 : Int32} {x3 : Int32} (C : Kok K cc nL RX1) (B : CB K T) (hta : ht g x0 = 4) (dK : kR K = rmC dk c1 s1) (hd : 3 + 1 ≤ dk) (hcs : c0 + 0 ≤ c1 ∧ s0 + 0 ≤ s1) (hf : f_X4_whyLend g d x0 x1 x2 x3 = some v) (hW : (rest.map fun v => v.category).sum ≤ 8) (dd : decode cc pc = .ok (.invokevirtual 345, 3)) (kk2 : XJ K nL (Wc K T c0 s0 g d) (pc + 3) L ((.int v) :: rest)) : XJ K nL (Wc K T c0 s0 g d) pc L (.int x3 :: .int x2 :: .int x1 :: .ref x0 :: rest) :=
  c_callV (rest := rest) (v := (some (.int v))) [.int x1, .int x2, .int x3] 3 rfl C B hta (by decide) (by decide) rfl dK hd (Nat.le_of_ble_eq_true rfl) hcs (lw_V q1084 q1085 q1086 q126 q1087) (by decide +kernel) (met_X4_whyLend hf) rfl hW dd kk2
theorem k_X4_lend_X1 {K : KT} {T : CT} {c0 s0 c1 s1 dk : Nat} {cc : ByteArray} {nL pc : Nat} {L : List (Nat × Value)} {rest : List Value} {g : CG} {d : CD} {v : CD} {x0 : Nat} {x1 : Int32} {x2 : Int32} {x3 : Int32} (C : Kok K cc nL RX1) (B : CB K T) (hta : ht g x0 = 4) (dK : kR K = rmC dk c1 s1) (hd : 2 + 1 ≤ dk) (hcs : c0 + 0 ≤ c1 ∧ s0 + 0 ≤ s1) (hf : f_X4_lend g x0 x1 x2 x3 d = some v) (hW : (rest.map fun v => v.category).sum ≤ 8) (dd : decode cc pc = .ok (.invokevirtual 349, 3)) (kk2 : XJ K nL (Wc K T c0 s0 g v) (pc + 3) L (rest)) : XJ K nL (Wc K T c0 s0 g d) pc L (.int x3 :: .int x2 :: .int x1 :: .ref x0 :: rest) :=
  c_callV (rest := rest) (v := none) [.int x1, .int x2, .int x3] 3 rfl C B hta (by decide) (by decide) rfl dK hd (Nat.le_of_ble_eq_true rfl) hcs (lw_V q1088 q1089 q1090 q126 q1091) (by decide +kernel) (met_X4_lend hf) rfl hW dd kk2
def f_X1_lend (n : Nat) (x0 : Nat) (x1 : Int32) (x2 : Int32) (x3 : Int32) (g : CG) (d : CD) : Option (SR Int32) := if ht g x0 = 1 then (f_X1_isStatue g d x0 x1).bind fun r2 => if r2 = 0 then (some ((-1 : Int32), g, d, 0, 0)) else ((f_X1_isStatue g d x0 x2).bind fun r4 => if r4 = 0 then (some ((-1 : Int32), g, d, 0, 0)) else (if x1 = x2 then (some ((-1 : Int32), g, d, 0, 0)) else (if (f_X1_isIn x3 (1 : Int32) (99 : Int32)) = 0 then (some ((-1 : Int32), g, d, 0, 0)) else ((hr g x0 7).bind fun p8 => if ht g p8 = 4 then (f_X4_whyLend g d p8 x1 x2 x3).bind fun r10 => if r10 = 0 then ((f_X1_keep n x0 g d).bind fun r12 => tick r12.2.2.2.1 r12.2.2.2.2 (if ht r12.2.1 x0 = 1 then (hr r12.2.1 x0 7).bind fun p16 => if ht r12.2.1 p16 = 4 then (f_X4_lend r12.2.1 p16 x1 x2 x3 r12.2.2.1).bind fun r18 => some ((0 : Int32), r12.2.1, r18, 0, 0) else none else none)) else (some (r10, g, d, 0, 0)) else none)))) else none
set_option maxHeartbeats 4000000 in
theorem w_X1_lend_E {K : KT} {T : CT} {r : Int32} {g9 : CG} {d9 : CD} {c1 s1 : Nat} (n : Nat) (C : Kok K cX1_lend 5 RX1) (B : CB K T) (hrt : (kMe K).sig.returnType = (some .int)) (dK : kR K = rmC 6 c1 s1) (hQ : KQc K T (some (.int r)) c1 s1 g9 d9) (x0 : Nat) (x1 : Int32) (x2 : Int32) (x3 : Int32) (g : CG) (d : CD) (c0 s0 k m9 : Nat) (hc : c1 = c0 + k) (hs : s1 = s0 + m9) (hf : f_X1_lend n x0 x1 x2 x3 g d = some (r, g9, d9, k, m9)) : XJ K 5 (Wc K T c0 s0 g d) 0 [(0, .ref x0), (1, .int x1), (2, .int x2), (3, .int x3)] [] := by
  unfold f_X1_lend at hf
  refine x_aload_n C dX1_lend_0 0 rfl ?_
  refine x_iload_n C dX1_lend_1 1 rfl ?_
  obtain ⟨t1, hf⟩ := pf_ch hf
  obtain ⟨r2, er2, hf⟩ := pf_b hf
  refine k_X1_isStatue_X1 C B t1 dK (Nat.le_of_ble_eq_true rfl) (by omega) er2 (Nat.le_of_ble_eq_true rfl) dX1_lend_2 ?_
  refine x_if_eq (tgt := 31) C dX1_lend_5 (by decide) (fun w3 => ?_) (fun w3 => ?_)
  · have hf := pf_t w3 hf
    refine x_iconst (-1 : Int32) C dX1_lend_31 (by decide) ?_
    obtain ⟨rfl, rfl, rfl, rfl, rfl⟩ := sr_inj hf
    refine c_cs (c0 := c1) (s0 := s1) (by omega) (by omega) ?_
    exact c_iret C hrt hQ dX1_lend_32
  · have hf := pf_f w3 hf
    refine x_aload_n C dX1_lend_8 0 rfl ?_
    refine x_iload_n C dX1_lend_9 2 rfl ?_
    obtain ⟨r4, er4, hf⟩ := pf_b hf
    refine k_X1_isStatue_X1 C B t1 dK (Nat.le_of_ble_eq_true rfl) (by omega) er4 (Nat.le_of_ble_eq_true rfl) dX1_lend_10 ?_
    refine x_if_eq (tgt := 31) C dX1_lend_13 (by decide) (fun w5 => ?_) (fun w5 => ?_)
    · have hf := pf_t w5 hf
      refine x_iconst (-1 : Int32) C dX1_lend_31 (by decide) ?_
      obtain ⟨rfl, rfl, rfl, rfl, rfl⟩ := sr_inj hf
      refine c_cs (c0 := c1) (s0 := s1) (by omega) (by omega) ?_
      exact c_iret C hrt hQ dX1_lend_32
    · have hf := pf_f w5 hf
      refine x_iload_n C dX1_lend_16 1 rfl ?_
      refine x_iload_n C dX1_lend_17 2 rfl ?_
      refine x_icmp_eq (tgt := 31) C dX1_lend_18 (by decide) (fun w6 => ?_) (fun w6 => ?_)
      · have hf := pf_t w6 hf
        refine x_iconst (-1 : Int32) C dX1_lend_31 (by decide) ?_
        obtain ⟨rfl, rfl, rfl, rfl, rfl⟩ := sr_inj hf
        refine c_cs (c0 := c1) (s0 := s1) (by omega) (by omega) ?_
        exact c_iret C hrt hQ dX1_lend_32
      · have hf := pf_f w6 hf
        refine x_iload_n C dX1_lend_21 3 rfl ?_
        refine x_iconst (1 : Int32) C dX1_lend_22 (by decide) ?_
        refine x_bipush (99 : Int32) C dX1_lend_23 (by decide) ?_
        refine k_X1_isIn_X1 C B dK (Nat.le_of_ble_eq_true rfl) (by omega) rfl (Nat.le_of_ble_eq_true rfl) dX1_lend_25 ?_
        refine x_if_ne (tgt := 33) C dX1_lend_28 (by decide) (fun w7 => ?_) (fun w7 => ?_)
        · have hf := pf_f w7 hf
          refine x_aload_n C dX1_lend_33 0 rfl ?_
          obtain ⟨p8, ep8, hf⟩ := pf_b hf
          refine cg1_7 C B t1 (flo C q624) fsm ep8 dX1_lend_34 ?_
          refine x_iload_n C dX1_lend_37 1 rfl ?_
          refine x_iload_n C dX1_lend_38 2 rfl ?_
          refine x_iload_n C dX1_lend_39 3 rfl ?_
          obtain ⟨t9, hf⟩ := pf_ch hf
          obtain ⟨r10, er10, hf⟩ := pf_b hf
          refine k_X4_whyLend_X1 C B t9 dK (Nat.le_of_ble_eq_true rfl) (by omega) er10 (Nat.le_of_ble_eq_true rfl) dX1_lend_40 ?_
          refine x_istore (L' := [(0, .ref x0), (1, .int x1), (2, .int x2), (3, .int x3), (4, .int r10)]) C dX1_lend_43 (Nat.le_of_ble_eq_true rfl) [1, 2, 3, 4, 0] rfl ?_
          refine x_iload C dX1_lend_45 4 rfl ?_
          refine x_if_eq (tgt := 53) C dX1_lend_47 (by decide) (fun w11 => ?_) (fun w11 => ?_)
          · have hf := pf_t w11 hf
            refine x_aload_n C dX1_lend_53 0 rfl ?_
            obtain ⟨r12, er12, hf⟩ := pf_b hf
            obtain ⟨j13, i14, ej13, ei14, hf⟩ := pf_tk hf
            refine k_X1_keep_X1 C B t1 dK (Nat.le_of_ble_eq_true rfl) (by omega) er12 (Nat.le_of_ble_eq_true rfl) dX1_lend_54 ?_
            refine x_aload_n C dX1_lend_57 0 rfl ?_
            obtain ⟨t15, hf⟩ := pf_ch hf
            obtain ⟨p16, ep16, hf⟩ := pf_b hf
            refine cg1_7 C B t15 (flo C q624) fsm ep16 dX1_lend_58 ?_
            refine x_iload_n C dX1_lend_61 1 rfl ?_
            refine x_iload_n C dX1_lend_62 2 rfl ?_
            refine x_iload_n C dX1_lend_63 3 rfl ?_
            obtain ⟨t17, hf⟩ := pf_ch hf
            obtain ⟨r18, er18, hf⟩ := pf_b hf
            refine k_X4_lend_X1 C B t17 dK (Nat.le_of_ble_eq_true rfl) (by omega) er18 (Nat.le_of_ble_eq_true rfl) dX1_lend_64 ?_
            refine x_iconst (0 : Int32) C dX1_lend_67 (by decide) ?_
            obtain ⟨rfl, rfl, rfl, rfl, rfl⟩ := sr_inj hf
            refine c_cs (c0 := c1) (s0 := s1) (by omega) (by omega) ?_
            exact c_iret C hrt hQ dX1_lend_68
          · have hf := pf_f w11 hf
            refine x_iload C dX1_lend_50 4 rfl ?_
            obtain ⟨rfl, rfl, rfl, rfl, rfl⟩ := sr_inj hf
            refine c_cs (c0 := c1) (s0 := s1) (by omega) (by omega) ?_
            exact c_iret C hrt hQ dX1_lend_52
        · have hf := pf_t w7 hf
          refine x_iconst (-1 : Int32) C dX1_lend_31 (by decide) ?_
          obtain ⟨rfl, rfl, rfl, rfl, rfl⟩ := sr_inj hf
          refine c_cs (c0 := c1) (s0 := s1) (by omega) (by omega) ?_
          exact c_iret C hrt hQ dX1_lend_32
theorem met_X1_lend {T : CT} {v : (SR Int32)} {n : Nat} {g : CG} {d : CD} {x0 : Nat} {x1 : Int32} {x2 : Int32} {x3 : Int32} {l : Launch} (hf : f_X1_lend n x0 x1 x2 x3 g d = some v) : Met l yX1_lend (ws_ yX1_lend cX1_lend 5 (some .int)) (rmC 6 v.2.2.2.1 v.2.2.2.2) (va_Pc [.ref x0, .int x1, .int x2, .int x3] (CU T g d)) (Qc T (some (.int v.1)) v.2.1 v.2.2.1) v.2.2.2.1 v.2.2.2.2 (cA T) :=
  c_metS [.ref x0, .int x1, .int x2, .int x3] RX1 (by decide) rfl (Nat.le_of_ble_eq_true rfl) (fun K hl hR hrt hnm C B hQ => w_X1_lend_E n C B hrt hR hQ _ _ _ _ _ _ 0 0 _ _ (Nat.zero_add _).symm (Nat.zero_add _).symm hf)
def f_X1_days (n : Nat) (x0 : Nat) (x1 : Int32) (x2 : Int32) (g : CG) (d : CD) : Option (SR Int32) := if (f_X1_isIn x1 (1 : Int32) (60 : Int32)) = 0 then (some ((-1 : Int32), g, d, 0, 0)) else (if ht g x0 = 1 then (hr g x0 7).bind fun p3 => if ht g p3 = 4 then if (hi d p3 4) = (400 : Int32) then (some ((0 : Int32), g, d, 0, 0)) else ((f_X1_keep n x0 g d).bind fun r6 => tick r6.2.2.2.1 r6.2.2.2.2 (if ht r6.2.1 x0 = 1 then (hr r6.2.1 x0 7).bind fun p10 => (hr r6.2.1 x0 6).bind fun p11 => if ht r6.2.1 p10 = 4 then (f_X4_days n r6.2.1 p10 p11 x1 x2 r6.2.2.1).bind fun r13 => some (r13.1, r6.2.1, r13.2, 0, 0) else none else none)) else none else none)
set_option maxHeartbeats 4000000 in
theorem w_X1_days_E {K : KT} {T : CT} {r : Int32} {g9 : CG} {d9 : CD} {c1 s1 : Nat} (n : Nat) (C : Kok K cX1_days 3 RX1) (B : CB K T) (hrt : (kMe K).sig.returnType = (some .int)) (dK : kR K = rmC 6 c1 s1) (hQ : KQc K T (some (.int r)) c1 s1 g9 d9) (x0 : Nat) (x1 : Int32) (x2 : Int32) (g : CG) (d : CD) (c0 s0 k m9 : Nat) (hc : c1 = c0 + k) (hs : s1 = s0 + m9) (hf : f_X1_days n x0 x1 x2 g d = some (r, g9, d9, k, m9)) : XJ K 3 (Wc K T c0 s0 g d) 0 [(0, .ref x0), (1, .int x1), (2, .int x2)] [] := by
  unfold f_X1_days at hf
  refine x_iload_n C dX1_days_0 1 rfl ?_
  refine x_iconst (1 : Int32) C dX1_days_1 (by decide) ?_
  refine x_bipush (60 : Int32) C dX1_days_2 (by decide) ?_
  refine k_X1_isIn_X1 C B dK (Nat.le_of_ble_eq_true rfl) (by omega) rfl (Nat.le_of_ble_eq_true rfl) dX1_days_4 ?_
  refine x_if_ne (tgt := 12) C dX1_days_7 (by decide) (fun w1 => ?_) (fun w1 => ?_)
  · have hf := pf_f w1 hf
    refine x_aload_n C dX1_days_12 0 rfl ?_
    obtain ⟨t2, hf⟩ := pf_ch hf
    obtain ⟨p3, ep3, hf⟩ := pf_b hf
    refine cg1_7 C B t2 (flo C q624) fsm ep3 dX1_days_13 ?_
    obtain ⟨t4, hf⟩ := pf_ch hf
    refine cg4_4 C B t4 (fln B q459) fsm dX1_days_16 ?_
    refine x_sipush (400 : Int32) C dX1_days_19 (by decide) ?_
    refine x_icmp_ne (tgt := 27) C dX1_days_22 (by decide) (fun w5 => ?_) (fun w5 => ?_)
    · have hf := pf_f w5 hf
      refine x_aload_n C dX1_days_27 0 rfl ?_
      obtain ⟨r6, er6, hf⟩ := pf_b hf
      obtain ⟨j7, i8, ej7, ei8, hf⟩ := pf_tk hf
      refine k_X1_keep_X1 C B t2 dK (Nat.le_of_ble_eq_true rfl) (by omega) er6 (Nat.le_of_ble_eq_true rfl) dX1_days_28 ?_
      refine x_aload_n C dX1_days_31 0 rfl ?_
      obtain ⟨t9, hf⟩ := pf_ch hf
      obtain ⟨p10, ep10, hf⟩ := pf_b hf
      refine cg1_7 C B t9 (flo C q624) fsm ep10 dX1_days_32 ?_
      refine x_aload_n C dX1_days_35 0 rfl ?_
      obtain ⟨p11, ep11, hf⟩ := pf_b hf
      refine cg1_6 C B t9 (flo C q621) fsm ep11 dX1_days_36 ?_
      refine x_iload_n C dX1_days_39 1 rfl ?_
      refine x_iload_n C dX1_days_40 2 rfl ?_
      obtain ⟨t12, hf⟩ := pf_ch hf
      obtain ⟨r13, er13, hf⟩ := pf_b hf
      refine k_X4_days_X1 C B t12 dK (Nat.le_of_ble_eq_true rfl) (by omega) er13 (Nat.le_of_ble_eq_true rfl) dX1_days_41 ?_
      obtain ⟨rfl, rfl, rfl, rfl, rfl⟩ := sr_inj hf
      refine c_cs (c0 := c1) (s0 := s1) (by omega) (by omega) ?_
      exact c_iret C hrt hQ dX1_days_44
    · have hf := pf_t w5 hf
      refine x_iconst (0 : Int32) C dX1_days_25 (by decide) ?_
      obtain ⟨rfl, rfl, rfl, rfl, rfl⟩ := sr_inj hf
      refine c_cs (c0 := c1) (s0 := s1) (by omega) (by omega) ?_
      exact c_iret C hrt hQ dX1_days_26
  · have hf := pf_t w1 hf
    refine x_iconst (-1 : Int32) C dX1_days_10 (by decide) ?_
    obtain ⟨rfl, rfl, rfl, rfl, rfl⟩ := sr_inj hf
    refine c_cs (c0 := c1) (s0 := s1) (by omega) (by omega) ?_
    exact c_iret C hrt hQ dX1_days_11
theorem met_X1_days {T : CT} {v : (SR Int32)} {n : Nat} {g : CG} {d : CD} {x0 : Nat} {x1 : Int32} {x2 : Int32} {l : Launch} (hf : f_X1_days n x0 x1 x2 g d = some v) : Met l yX1_days (ws_ yX1_days cX1_days 3 (some .int)) (rmC 6 v.2.2.2.1 v.2.2.2.2) (va_Pc [.ref x0, .int x1, .int x2] (CU T g d)) (Qc T (some (.int v.1)) v.2.1 v.2.2.1) v.2.2.2.1 v.2.2.2.2 (cA T) :=
  c_metS [.ref x0, .int x1, .int x2] RX1 (by decide) rfl (Nat.le_of_ble_eq_true rfl) (fun K hl hR hrt hnm C B hQ => w_X1_days_E n C B hrt hR hQ _ _ _ _ _ 0 0 _ _ (Nat.zero_add _).symm (Nat.zero_add _).symm hf)
