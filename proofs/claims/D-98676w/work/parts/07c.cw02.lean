set_option maxRecDepth 100000
theorem k_X3_yields_X1 {K : KT} {T : CT} {c0 s0 c1 s1 dk : Nat} {cc : ByteArray} {nL pc : Nat} {L : List (Nat × Value)} {rest : List Value} {g : CG} {d : CD} {v : Int32} {n : Nat} {x0 : Nat} {x1 : Int32} {x2 : Int32} {x3 : Int32} {x4 : Int32} (C : Kok K cc nL RX1) (B : CB K T) (hta : ht g x0 = 3) (dK : kR K = rmC dk c1 s1) (hd : 3 + 1 ≤ dk) (hcs : c0 + 0 ≤ c1 ∧ s0 + 0 ≤ s1) (hf : f_X3_yields n g d x0 x1 x2 x3 x4 = some v) (hW : (rest.map fun v => v.category).sum ≤ 8) (dd : decode cc pc = .ok (.invokevirtual 365, 3)) (kk2 : XJ K nL (Wc K T c0 s0 g d) (pc + 3) L ((.int v) :: rest)) : XJ K nL (Wc K T c0 s0 g d) pc L (.int x4 :: .int x3 :: .int x2 :: .int x1 :: .ref x0 :: rest) :=
  c_callV (rest := rest) (v := (some (.int v))) [.int x1, .int x2, .int x3, .int x4] 4 rfl C B hta (by decide) (by decide) rfl dK hd (Nat.le_of_ble_eq_true rfl) hcs (lw_V q1174 q1152 q1153 q125 q1154) (by decide +kernel) (met_X3_yields hf) rfl hW dd kk2
def f_X1_gain (n : Nat) (g : CG) (d : CD) (x0 : Nat) (x1 : Int32) (x2 : Int32) : Option Int32 := if ht g x0 = 1 then (hr g x0 6).bind fun p2 => (f_X1_all g d x0).bind fun r3 => (hr g x0 7).bind fun p4 => if ht g p4 = 4 then (hr g p4 0).bind fun p6 => if ht g p6 = 105 then if inb x1 (hn g p6) = true then (hr g p6 (Int32.toNatClampNeg x1)).bind fun p9 => if ht g p9 = 5 then if ht g p2 = 3 then (f_X3_yields n g d p2 r3 x2 (hi d p9 0) (hi d p9 5)).bind fun r12 => (hr g p2 4).bind fun p13 => if ht g p13 = 100 then if inb x2 (hn g p13) = true then some (r12 - ((5040 : Int32) * (hi d p13 (Int32.toNatClampNeg x2)))) else none else none else none else none else none else none else none else none
set_option maxHeartbeats 4000000 in
theorem w_X1_gain_E {K : KT} {T : CT} {r : Int32} (n : Nat) (g : CG) (d : CD) (C : Kok K cX1_gain 3 RX1) (B : CB K T) (hr : (kMe K).sig.returnType = (some .int)) (dK : kR K = rmC 4 0 0) (hQ : KQc K T (some (.int r)) 0 0 g d) (x0 : Nat) (x1 : Int32) (x2 : Int32) (hf : f_X1_gain n g d x0 x1 x2 = some r) : XJ K 3 (Wc K T 0 0 g d) 0 [(0, .ref x0), (1, .int x1), (2, .int x2)] [] := by
  unfold f_X1_gain at hf
  refine x_aload_n C dX1_gain_0 0 rfl ?_
  obtain ⟨t1, hf⟩ := pf_ch hf
  obtain ⟨p2, ep2, hf⟩ := pf_b hf
  refine cg1_6 C B t1 (flo C q621) fsm ep2 dX1_gain_1 ?_
  refine x_aload_n C dX1_gain_4 0 rfl ?_
  obtain ⟨r3, er3, hf⟩ := pf_b hf
  refine k_X1_all_X1 C B t1 dK (Nat.le_of_ble_eq_true rfl) cz er3 (Nat.le_of_ble_eq_true rfl) dX1_gain_5 ?_
  refine x_iload_n C dX1_gain_8 2 rfl ?_
  refine x_aload_n C dX1_gain_9 0 rfl ?_
  obtain ⟨p4, ep4, hf⟩ := pf_b hf
  refine cg1_7 C B t1 (flo C q624) fsm ep4 dX1_gain_10 ?_
  obtain ⟨t5, hf⟩ := pf_ch hf
  obtain ⟨p6, ep6, hf⟩ := pf_b hf
  refine cg4_0 C B t5 (fln B q451) fsm ep6 dX1_gain_13 ?_
  refine x_iload_n C dX1_gain_16 1 rfl ?_
  obtain ⟨t7, hf⟩ := pf_ch hf
  obtain ⟨h8, hf⟩ := pf_in hf
  obtain ⟨p9, ep9, hf⟩ := pf_b hf
  refine ca_ald5 C B t7 h8 ep9 dX1_gain_17 ?_
  obtain ⟨t10, hf⟩ := pf_ch hf
  refine cg5_0 C B t10 (fln B q412) fsm dX1_gain_18 ?_
  refine x_aload_n C dX1_gain_21 0 rfl ?_
  refine cg1_7 C B t1 (flo C q624) fsm ep4 dX1_gain_22 ?_
  refine cg4_0 C B t5 (fln B q451) fsm ep6 dX1_gain_25 ?_
  refine x_iload_n C dX1_gain_28 1 rfl ?_
  refine ca_ald5 C B t7 h8 ep9 dX1_gain_29 ?_
  refine cg5_5 C B t10 (fln B q433) fsm dX1_gain_30 ?_
  obtain ⟨t11, hf⟩ := pf_ch hf
  obtain ⟨r12, er12, hf⟩ := pf_b hf
  refine k_X3_yields_X1 C B t11 dK (Nat.le_of_ble_eq_true rfl) cz er12 (Nat.le_of_ble_eq_true rfl) dX1_gain_33 ?_
  refine x_sipush (5040 : Int32) C dX1_gain_36 (by decide) ?_
  refine x_aload_n C dX1_gain_39 0 rfl ?_
  refine cg1_6 C B t1 (flo C q621) fsm ep2 dX1_gain_40 ?_
  obtain ⟨p13, ep13, hf⟩ := pf_b hf
  refine cg3_4 C B t11 (fln B q285) fsm ep13 dX1_gain_43 ?_
  refine x_iload_n C dX1_gain_46 2 rfl ?_
  obtain ⟨t14, hf⟩ := pf_ch hf
  obtain ⟨h15, hf⟩ := pf_in hf
  refine ca_ild C B t14 h15 dX1_gain_47 ?_
  refine x_imul C dX1_gain_48 ?_
  refine x_isub C dX1_gain_49 ?_
  obtain rfl := Option.some.inj hf
  exact c_iret C hr hQ dX1_gain_50
theorem met_X1_gain {T : CT} {v : Int32} {n : Nat} {g : CG} {d : CD} {x0 : Nat} {x1 : Int32} {x2 : Int32} {l : Launch} (hf : f_X1_gain n g d x0 x1 x2 = some v) : Met l yX1_gain (ws_ yX1_gain cX1_gain 3 (some .int)) (rmC 4 0 0) (va_Pc [.ref x0, .int x1, .int x2] (CU T g d)) (Qc T (some (.int v)) g d) 0 0 (cA T) :=
  c_met [.ref x0, .int x1, .int x2] RX1 (by decide) rfl (Nat.le_of_ble_eq_true rfl) (fun K hl hR hr C B hQ => w_X1_gain_E _ _ _ C B hr hR hQ _ _ _ hf)
def f_X1_one (g : CG) (d : CD) (x0 : Nat) (x1 : Int32) : Option Int32 := if ht g x0 = 1 then (hr g x0 0).bind fun p2 => if ht g p2 = 103 then if inb x1 (hn g p2) = true then some ((hi d p2 (Int32.toNatClampNeg x1)) &&& (255 : Int32)) else none else none else none
set_option maxHeartbeats 4000000 in
theorem w_X1_one_E {K : KT} {T : CT} {r : Int32} (g : CG) (d : CD) (C : Kok K cX1_one 2 RX1) (B : CB K T) (hr : (kMe K).sig.returnType = (some .int)) (dK : kR K = rmC 2 0 0) (hQ : KQc K T (some (.int r)) 0 0 g d) (x0 : Nat) (x1 : Int32) (hf : f_X1_one g d x0 x1 = some r) : XJ K 2 (Wc K T 0 0 g d) 0 [(0, .ref x0), (1, .int x1)] [] := by
  unfold f_X1_one at hf
  refine x_aload_n C dX1_one_0 0 rfl ?_
  obtain ⟨t1, hf⟩ := pf_ch hf
  obtain ⟨p2, ep2, hf⟩ := pf_b hf
  refine cg1_0 C B t1 (flo C q609) fsm ep2 dX1_one_1 ?_
  refine x_iload_n C dX1_one_4 1 rfl ?_
  obtain ⟨t3, hf⟩ := pf_ch hf
  obtain ⟨h4, hf⟩ := pf_in hf
  refine ca_bld C B t3 h4 dX1_one_5 ?_
  refine x_sipush (255 : Int32) C dX1_one_6 (by decide) ?_
  refine x_iand C dX1_one_9 ?_
  obtain rfl := Option.some.inj hf
  exact c_iret C hr hQ dX1_one_10
theorem met_X1_one {T : CT} {v : Int32} {g : CG} {d : CD} {x0 : Nat} {x1 : Int32} {l : Launch} (hf : f_X1_one g d x0 x1 = some v) : Met l yX1_one (ws_ yX1_one cX1_one 2 (some .int)) (rmC 2 0 0) (va_Pc [.ref x0, .int x1] (CU T g d)) (Qc T (some (.int v)) g d) 0 0 (cA T) :=
  c_met [.ref x0, .int x1] RX1 (by decide) rfl (Nat.le_of_ble_eq_true rfl) (fun K hl hR hr C B hQ => w_X1_one_E _ _ C B hr hR hQ _ _ hf)
def f_X3_passers_L4 (n : Nat) (g : CG) (d : CD) : Nat → Nat → Int32 → Int32 → Int32 → Option Int32
  | 0, _, _, _, _ => none
  | m + 1, x0, x1, x2, x3 => if ht g x0 = 3 then if (hi d x0 21) ≤ x3 then (some x2) else ((f_X3_comes n g d x0 x3 x1).bind fun r3 => if r3 = 0 then (f_X3_passers_L4 n g d m x0 x1 x2 (x3 + (1 : Int32))) else (ev (x2 ||| ((1 : Int32) <<< (x3 &&& 31))) fun v5 => f_X3_passers_L4 n g d m x0 x1 v5 (x3 + (1 : Int32)))) else none
set_option maxHeartbeats 4000000 in
theorem w_X3_passers_4 {K : KT} {T : CT} {r : Int32} (n : Nat) (g : CG) (d : CD) (C : Kok K cX3_passers 4 RX3) (B : CB K T) (hr : (kMe K).sig.returnType = (some .int)) (dK : kR K = rmC 3 0 0) (hQ : KQc K T (some (.int r)) 0 0 g d) : ∀ (m : Nat) (x0 : Nat) (x1 : Int32) (x2 : Int32) (x3 : Int32) (hf : f_X3_passers_L4 n g d m x0 x1 x2 x3 = some r), XJ K 4 (Wc K T 0 0 g d) 4 [(0, .ref x0), (1, .int x1), (2, .int x2), (3, .int x3)] [] := by
  intro m
  induction m with
  | zero => intro x0 x1 x2 x3 hf; cases hf
  | succ m ih =>
    intro x0 x1 x2 x3 hf
    rw [f_X3_passers_L4] at hf
    refine x_iload_n C dX3_passers_4 3 rfl ?_
    refine x_aload_n C dX3_passers_5 0 rfl ?_
    obtain ⟨t1, hf⟩ := pf_ch hf
    refine cg3_21 C B t1 (flo C q338) fsm dX3_passers_6 ?_
    refine x_icmp_ge (tgt := 33) C dX3_passers_9 (by decide) (fun c2 => ?_) (fun c2 => ?_)
    · have hf := pf_t c2 hf
      refine x_iload_n C dX3_passers_33 2 rfl ?_
      obtain rfl := Option.some.inj hf
      exact c_iret C hr hQ dX3_passers_34
    · have hf := pf_f c2 hf
      refine x_aload_n C dX3_passers_12 0 rfl ?_
      refine x_iload_n C dX3_passers_13 3 rfl ?_
      refine x_iload_n C dX3_passers_14 1 rfl ?_
      obtain ⟨r3, er3, hf⟩ := pf_b hf
      refine k_X3_comes_X3 C B t1 dK (Nat.le_of_ble_eq_true rfl) cz er3 (Nat.le_of_ble_eq_true rfl) dX3_passers_15 ?_
      refine x_if_eq (tgt := 27) C dX3_passers_18 (by decide) (fun c4 => ?_) (fun c4 => ?_)
      · have hf := pf_t c4 hf
        refine x_inc (c := (1 : Int32)) (L' := [(0, .ref x0), (1, .int x1), (2, .int x2), (3, .int (x3 + (1 : Int32)))]) C dX3_passers_27 3 rfl (by decide) (Nat.le_of_ble_eq_true rfl) [1, 2, 3, 0] rfl ?_
        refine x_goto (tgt := 4) C dX3_passers_30 (by decide) ?_
        exact ih x0 x1 x2 (x3 + (1 : Int32)) hf
      · have hf := pf_f c4 hf
        refine x_iload_n C dX3_passers_21 2 rfl ?_
        refine x_iconst (1 : Int32) C dX3_passers_22 (by decide) ?_
        refine x_iload_n C dX3_passers_23 3 rfl ?_
        refine x_ishl C dX3_passers_24 ?_
        refine x_ior C dX3_passers_25 ?_
        obtain ⟨v5, ev5, hf⟩ := pf_e hf
        refine x_topir ev5 ?_
        refine x_istore_n (L' := [(0, .ref x0), (1, .int x1), (2, .int v5), (3, .int x3)]) C dX3_passers_26 (Nat.le_of_ble_eq_true rfl) [1, 2, 0, 3] rfl ?_
        refine x_inc (c := (1 : Int32)) (L' := [(0, .ref x0), (1, .int x1), (2, .int v5), (3, .int (x3 + (1 : Int32)))]) C dX3_passers_27 3 rfl (by decide) (Nat.le_of_ble_eq_true rfl) [1, 2, 3, 0] rfl ?_
        refine x_goto (tgt := 4) C dX3_passers_30 (by decide) ?_
        exact ih x0 x1 v5 (x3 + (1 : Int32)) hf
def f_X3_passers (n : Nat) (g : CG) (d : CD) (x0 : Nat) (x1 : Int32) : Option Int32 := f_X3_passers_L4 n g d n x0 x1 (0 : Int32) (0 : Int32)
set_option maxHeartbeats 4000000 in
theorem w_X3_passers_E {K : KT} {T : CT} {r : Int32} (n : Nat) (g : CG) (d : CD) (C : Kok K cX3_passers 4 RX3) (B : CB K T) (hr : (kMe K).sig.returnType = (some .int)) (dK : kR K = rmC 3 0 0) (hQ : KQc K T (some (.int r)) 0 0 g d) (x0 : Nat) (x1 : Int32) (hf : f_X3_passers n g d x0 x1 = some r) : XJ K 4 (Wc K T 0 0 g d) 0 [(0, .ref x0), (1, .int x1)] [] := by
  unfold f_X3_passers at hf
  refine x_iconst (0 : Int32) C dX3_passers_0 (by decide) ?_
  refine x_istore_n (L' := [(0, .ref x0), (1, .int x1), (2, .int (0 : Int32))]) C dX3_passers_1 (Nat.le_of_ble_eq_true rfl) [1, 2, 0] rfl ?_
  refine x_iconst (0 : Int32) C dX3_passers_2 (by decide) ?_
  refine x_istore_n (L' := [(0, .ref x0), (1, .int x1), (2, .int (0 : Int32)), (3, .int (0 : Int32))]) C dX3_passers_3 (Nat.le_of_ble_eq_true rfl) [1, 2, 3, 0] rfl ?_
  exact w_X3_passers_4 n g d C B hr dK hQ n x0 x1 (0 : Int32) (0 : Int32) hf
theorem met_X3_passers {T : CT} {v : Int32} {n : Nat} {g : CG} {d : CD} {x0 : Nat} {x1 : Int32} {l : Launch} (hf : f_X3_passers n g d x0 x1 = some v) : Met l yX3_passers (ws_ yX3_passers cX3_passers 4 (some .int)) (rmC 3 0 0) (va_Pc [.ref x0, .int x1] (CU T g d)) (Qc T (some (.int v)) g d) 0 0 (cA T) :=
  c_met [.ref x0, .int x1] RX3 (by decide) rfl (Nat.le_of_ble_eq_true rfl) (fun K hl hR hr C B hQ => w_X3_passers_E _ _ _ C B hr hR hQ _ _ hf)
theorem k_X3_passers_X1 {K : KT} {T : CT} {c0 s0 c1 s1 dk : Nat} {cc : ByteArray} {nL pc : Nat} {L : List (Nat × Value)} {rest : List Value} {g : CG} {d : CD} {v : Int32} {n : Nat} {x0 : Nat} {x1 : Int32} (C : Kok K cc nL RX1) (B : CB K T) (hta : ht g x0 = 3) (dK : kR K = rmC dk c1 s1) (hd : 3 + 1 ≤ dk) (hcs : c0 + 0 ≤ c1 ∧ s0 + 0 ≤ s1) (hf : f_X3_passers n g d x0 x1 = some v) (hW : (rest.map fun v => v.category).sum ≤ 8) (dd : decode cc pc = .ok (.invokevirtual 251, 3)) (kk2 : XJ K nL (Wc K T c0 s0 g d) (pc + 3) L ((.int v) :: rest)) : XJ K nL (Wc K T c0 s0 g d) pc L (.int x1 :: .ref x0 :: rest) :=
  c_callV (rest := rest) (v := (some (.int v))) [.int x1] 1 rfl C B hta (by decide) (by decide) rfl dK hd (Nat.le_of_ble_eq_true rfl) hcs (lw_V q978 q979 q980 q125 q981) (by decide +kernel) (met_X3_passers hf) rfl hW dd kk2
theorem k_J10_bitCount_X1 {K : KT} {T : CT} {c0 s0 c1 s1 dk : Nat} {cc : ByteArray} {nL pc : Nat} {L : List (Nat × Value)} {rest : List Value} {g : CG} {d : CD} {v : Int32} {x0 : Int32} (C : Kok K cc nL RX1) (B : CB K T) (dK : kR K = rmC dk c1 s1) (hd : 2 + 1 ≤ dk) (hcs : c0 + 0 ≤ c1 ∧ s0 + 0 ≤ s1) (hf : f_J10_bitCount x0 = v) (hW : (rest.map fun v => v.category).sum ≤ 8) (dd : decode cc pc = .ok (.invokestatic 447, 3)) (kk2 : XJ K nL (Wc K T c0 s0 g d) (pc + 3) L ((.int v) :: rest)) : XJ K nL (Wc K T c0 s0 g d) pc L (.int x0 :: rest) :=
  c_callS (rest := rest) (v := (some (.int v))) [.int x0] 1 rfl C B dK hd (Nat.le_of_ble_eq_true rfl) hcs (lw_S q1255 q1256 q143 q1257) (by decide +kernel) (met_J10_bitCount hf) rfl hW dd kk2
theorem k_X1_one_X1 {K : KT} {T : CT} {c0 s0 c1 s1 dk : Nat} {cc : ByteArray} {nL pc : Nat} {L : List (Nat × Value)} {rest : List Value} {g : CG} {d : CD} {v : Int32} {x0 : Nat} {x1 : Int32} (C : Kok K cc nL RX1) (B : CB K T) (hta : ht g x0 = 1) (dK : kR K = rmC dk c1 s1) (hd : 2 + 1 ≤ dk) (hcs : c0 + 0 ≤ c1 ∧ s0 + 0 ≤ s1) (hf : f_X1_one g d x0 x1 = some v) (hW : (rest.map fun v => v.category).sum ≤ 8) (dd : decode cc pc = .ok (.invokevirtual 432, 3)) (kk2 : XJ K nL (Wc K T c0 s0 g d) (pc + 3) L ((.int v) :: rest)) : XJ K nL (Wc K T c0 s0 g d) pc L (.int x1 :: .ref x0 :: rest) :=
  c_callV (rest := rest) (v := (some (.int v))) [.int x1] 1 rfl C B hta (by decide) (by decide) rfl dK hd (Nat.le_of_ble_eq_true rfl) hcs (lw_V q1232 q1234 qs28 q121 q1235) (by decide +kernel) (met_X1_one hf) rfl hW dd kk2
def f_X1_isGrass_L2 (n : Nat) (g : CG) (d : CD) : Nat → Nat → Int32 → Int32 → Option Int32
  | 0, _, _, _ => none
  | m + 1, x0, x1, x2 => if ht g x0 = 1 then (hr g x0 6).bind fun p2 => if ht g p2 = 3 then if (hi d p2 17) ≤ x2 then (some (1 : Int32)) else ((f_X3_passers n g d p2 x2).bind fun r5 => (f_X1_one g d x0 x2).bind fun r6 => if (f_J10_bitCount (x1 &&& r5)) = r6 then (f_X1_isGrass_L2 n g d m x0 x1 (x2 + (1 : Int32))) else (some (0 : Int32))) else none else none
set_option maxHeartbeats 4000000 in
theorem w_X1_isGrass_2 {K : KT} {T : CT} {r : Int32} (n : Nat) (g : CG) (d : CD) (C : Kok K cX1_isGrass 3 RX1) (B : CB K T) (hr : (kMe K).sig.returnType = (some .boolean)) (dK : kR K = rmC 4 0 0) (hQ : KQc K T (some (.int r)) 0 0 g d) : ∀ (m : Nat) (x0 : Nat) (x1 : Int32) (x2 : Int32) (hf : f_X1_isGrass_L2 n g d m x0 x1 x2 = some r), XJ K 3 (Wc K T 0 0 g d) 2 [(0, .ref x0), (1, .int x1), (2, .int x2)] [] := by
  intro m
  induction m with
  | zero => intro x0 x1 x2 hf; cases hf
  | succ m ih =>
    intro x0 x1 x2 hf
    rw [f_X1_isGrass_L2] at hf
    refine x_iload_n C dX1_isGrass_2 2 rfl ?_
    refine x_aload_n C dX1_isGrass_3 0 rfl ?_
    obtain ⟨t1, hf⟩ := pf_ch hf
    obtain ⟨p2, ep2, hf⟩ := pf_b hf
    refine cg1_6 C B t1 (flo C q621) fsm ep2 dX1_isGrass_4 ?_
    obtain ⟨t3, hf⟩ := pf_ch hf
    refine cg3_17 C B t3 (fln B q326) fsm dX1_isGrass_7 ?_
    refine x_icmp_ge (tgt := 42) C dX1_isGrass_10 (by decide) (fun c4 => ?_) (fun c4 => ?_)
    · have hf := pf_t c4 hf
      refine x_iconst (1 : Int32) C dX1_isGrass_42 (by decide) ?_
      obtain rfl := Option.some.inj hf
      exact c_zret C hr (Or.inr rfl) hQ dX1_isGrass_43
    · have hf := pf_f c4 hf
      refine x_iload_n C dX1_isGrass_13 1 rfl ?_
      refine x_aload_n C dX1_isGrass_14 0 rfl ?_
      refine cg1_6 C B t1 (flo C q621) fsm ep2 dX1_isGrass_15 ?_
      refine x_iload_n C dX1_isGrass_18 2 rfl ?_
      obtain ⟨r5, er5, hf⟩ := pf_b hf
      refine k_X3_passers_X1 C B t3 dK (Nat.le_of_ble_eq_true rfl) cz er5 (Nat.le_of_ble_eq_true rfl) dX1_isGrass_19 ?_
      refine x_iand C dX1_isGrass_22 ?_
      refine k_J10_bitCount_X1 C B dK (Nat.le_of_ble_eq_true rfl) cz rfl (Nat.le_of_ble_eq_true rfl) dX1_isGrass_23 ?_
      refine x_aload_n C dX1_isGrass_26 0 rfl ?_
      refine x_iload_n C dX1_isGrass_27 2 rfl ?_
      obtain ⟨r6, er6, hf⟩ := pf_b hf
      refine k_X1_one_X1 C B t1 dK (Nat.le_of_ble_eq_true rfl) cz er6 (Nat.le_of_ble_eq_true rfl) dX1_isGrass_28 ?_
      refine x_icmp_eq (tgt := 36) C dX1_isGrass_31 (by decide) (fun c7 => ?_) (fun c7 => ?_)
      · have hf := pf_t c7 hf
        refine x_inc (c := (1 : Int32)) (L' := [(0, .ref x0), (1, .int x1), (2, .int (x2 + (1 : Int32)))]) C dX1_isGrass_36 2 rfl (by decide) (Nat.le_of_ble_eq_true rfl) [1, 2, 0] rfl ?_
        refine x_goto (tgt := 2) C dX1_isGrass_39 (by decide) ?_
        exact ih x0 x1 (x2 + (1 : Int32)) hf
      · have hf := pf_f c7 hf
        refine x_iconst (0 : Int32) C dX1_isGrass_34 (by decide) ?_
        obtain rfl := Option.some.inj hf
        exact c_zret C hr (Or.inl rfl) hQ dX1_isGrass_35
theorem bz_X1_isGrass_2 {r : Int32} {n : Nat} {g : CG} {d : CD} : ∀ (m : Nat) (x0 : Nat) (x1 : Int32) (x2 : Int32) (hf : f_X1_isGrass_L2 n g d m x0 x1 x2 = some r), r = 0 ∨ r = 1 := by
  intro m
  induction m with
  | zero => intro x0 x1 x2 hf; cases hf
  | succ m ih =>
    intro x0 x1 x2 hf
    rw [f_X1_isGrass_L2] at hf
    obtain ⟨t1, hf⟩ := pf_ch hf
    obtain ⟨p2, ep2, hf⟩ := pf_b hf
    obtain ⟨t3, hf⟩ := pf_ch hf
    by_cases c4 : (hi d p2 17) ≤ x2
    · have hf := pf_t c4 hf
      obtain rfl := Option.some.inj hf
      exact (Or.inr rfl)
    · have hf := pf_f c4 hf
      obtain ⟨r5, er5, hf⟩ := pf_b hf
      obtain ⟨r6, er6, hf⟩ := pf_b hf
      by_cases c7 : (f_J10_bitCount (x1 &&& r5)) = r6
      · have hf := pf_t c7 hf
        exact ih x0 x1 (x2 + (1 : Int32)) hf
      · have hf := pf_f c7 hf
        obtain rfl := Option.some.inj hf
        exact (Or.inl rfl)
def f_X1_isGrass (n : Nat) (g : CG) (d : CD) (x0 : Nat) (x1 : Int32) : Option Int32 := f_X1_isGrass_L2 n g d n x0 x1 (0 : Int32)
set_option maxHeartbeats 4000000 in
theorem w_X1_isGrass_E {K : KT} {T : CT} {r : Int32} (n : Nat) (g : CG) (d : CD) (C : Kok K cX1_isGrass 3 RX1) (B : CB K T) (hr : (kMe K).sig.returnType = (some .boolean)) (dK : kR K = rmC 4 0 0) (hQ : KQc K T (some (.int r)) 0 0 g d) (x0 : Nat) (x1 : Int32) (hf : f_X1_isGrass n g d x0 x1 = some r) : XJ K 3 (Wc K T 0 0 g d) 0 [(0, .ref x0), (1, .int x1)] [] := by
  unfold f_X1_isGrass at hf
  refine x_iconst (0 : Int32) C dX1_isGrass_0 (by decide) ?_
  refine x_istore_n (L' := [(0, .ref x0), (1, .int x1), (2, .int (0 : Int32))]) C dX1_isGrass_1 (Nat.le_of_ble_eq_true rfl) [1, 2, 0] rfl ?_
  exact w_X1_isGrass_2 n g d C B hr dK hQ n x0 x1 (0 : Int32) hf
theorem bz_X1_isGrass_E {r : Int32} {n : Nat} {g : CG} {d : CD} {x0 : Nat} {x1 : Int32} (hf : f_X1_isGrass n g d x0 x1 = some r) : r = 0 ∨ r = 1 := by
  unfold f_X1_isGrass at hf
  exact bz_X1_isGrass_2 n x0 x1 (0 : Int32) hf
theorem met_X1_isGrass {T : CT} {v : Int32} {n : Nat} {g : CG} {d : CD} {x0 : Nat} {x1 : Int32} {l : Launch} (hf : f_X1_isGrass n g d x0 x1 = some v) : Met l yX1_isGrass (ws_ yX1_isGrass cX1_isGrass 3 (some .boolean)) (rmC 4 0 0) (va_Pc [.ref x0, .int x1] (CU T g d)) (Qc T (some (.int v)) g d) 0 0 (cA T) :=
  c_met [.ref x0, .int x1] RX1 (by decide) rfl (Nat.le_of_ble_eq_true rfl) (fun K hl hR hr C B hQ => w_X1_isGrass_E _ _ _ C B hr hR hQ _ _ hf)
def f_X1_taken (g : CG) (x0 : Nat) (d : CD) : Option CD := if ht g x0 = 1 then ev (wi d x0 2 (hi d x0 1)) fun s2 => ev (wi s2 x0 1 (0 : Int32)) fun s3 => some s3 else none
set_option maxHeartbeats 4000000 in
theorem w_X1_taken_E {K : KT} {T : CT} {τ : CD} (g : CG) (C : Kok K cX1_taken 1 RX1) (B : CB K T) (hr : (kMe K).sig.returnType = none) (dK : kR K = rmC 2 0 0) (hQ : KQc K T none 0 0 g τ) (x0 : Nat) (d : CD) (hf : f_X1_taken g x0 d = some τ) : XJ K 1 (Wc K T 0 0 g d) 0 [(0, .ref x0)] [] := by
  unfold f_X1_taken at hf
  refine x_aload_n C dX1_taken_0 0 rfl ?_
  refine x_aload_n C dX1_taken_1 0 rfl ?_
  obtain ⟨t1, hf⟩ := pf_ch hf
  refine cg1_1 C B t1 (flo C q611) fsm dX1_taken_2 ?_
  refine cp1_2 C B t1 (flo C q613) fsm dX1_taken_5 ?_
  obtain ⟨s2, es2, hf⟩ := pf_e hf
  refine c_ren es2 ?_
  refine x_aload_n C dX1_taken_8 0 rfl ?_
  refine x_iconst (0 : Int32) C dX1_taken_9 (by decide) ?_
  refine cp1_1 C B t1 (flo C q611) fsm dX1_taken_10 ?_
  obtain ⟨s3, es3, hf⟩ := pf_e hf
  refine c_ren es3 ?_
  obtain rfl := Option.some.inj hf
  exact c_vret C hr hQ dX1_taken_13
theorem met_X1_taken {T : CT} {v : CD} {g : CG} {d : CD} {x0 : Nat} {l : Launch} (hf : f_X1_taken g x0 d = some v) : Met l yX1_taken (ws_ yX1_taken cX1_taken 1 none) (rmC 2 0 0) (va_Pc [.ref x0] (CU T g d)) (Qc T none g v) 0 0 (cA T) :=
  c_met [.ref x0] RX1 (by decide) rfl (Nat.le_of_ble_eq_true rfl) (fun K hl hR hr C B hQ => w_X1_taken_E _ C B hr hR hQ _ _ hf)
theorem k_X1_isGrass_X1 {K : KT} {T : CT} {c0 s0 c1 s1 dk : Nat} {cc : ByteArray} {nL pc : Nat} {L : List (Nat × Value)} {rest : List Value} {g : CG} {d : CD} {v : Int32} {n : Nat} {x0 : Nat} {x1 : Int32} (C : Kok K cc nL RX1) (B : CB K T) (hta : ht g x0 = 1) (dK : kR K = rmC dk c1 s1) (hd : 4 + 1 ≤ dk) (hcs : c0 + 0 ≤ c1 ∧ s0 + 0 ≤ s1) (hf : f_X1_isGrass n g d x0 x1 = some v) (hW : (rest.map fun v => v.category).sum ≤ 8) (dd : decode cc pc = .ok (.invokevirtual 471, 3)) (kk2 : XJ K nL (Wc K T c0 s0 g d) (pc + 3) L ((.int v) :: rest)) : XJ K nL (Wc K T c0 s0 g d) pc L (.int x1 :: .ref x0 :: rest) :=
  c_callV (rest := rest) (v := (some (.int v))) [.int x1] 1 rfl C B hta (by decide) (by decide) rfl dK hd (Nat.le_of_ble_eq_true rfl) hcs (lw_V q1283 q1285 qs31 q121 q1286) (by decide +kernel) (met_X1_isGrass hf) rfl hW dd kk2
theorem k_X1_taken_X1 {K : KT} {T : CT} {c0 s0 c1 s1 dk : Nat} {cc : ByteArray} {nL pc : Nat} {L : List (Nat × Value)} {rest : List Value} {g : CG} {d : CD} {v : CD} {x0 : Nat} (C : Kok K cc nL RX1) (B : CB K T) (hta : ht g x0 = 1) (dK : kR K = rmC dk c1 s1) (hd : 2 + 1 ≤ dk) (hcs : c0 + 0 ≤ c1 ∧ s0 + 0 ≤ s1) (hf : f_X1_taken g x0 d = some v) (hW : (rest.map fun v => v.category).sum ≤ 8) (dd : decode cc pc = .ok (.invokevirtual 184, 3)) (kk2 : XJ K nL (Wc K T c0 s0 g v) (pc + 3) L (rest)) : XJ K nL (Wc K T c0 s0 g d) pc L (.ref x0 :: rest) :=
  c_callV (rest := rest) (v := none) [] 0 rfl C B hta (by decide) (by decide) rfl dK hd (Nat.le_of_ble_eq_true rfl) hcs (lw_V q759 q761 qs2 q121 q762) (by decide +kernel) (met_X1_taken hf) rfl hW dd kk2
def f_X1_grass_L39 (n : Nat) (g : CG) : Nat → Nat → Int32 → Int32 → Int32 → CD → Option (Int32 × CD)
  | 0, _, _, _, _, _ => none
  | m + 1, x0, x1, x2, x3, d => if ht g x0 = 1 then (f_X1_all g d x0).bind fun r2 => if r2 < x3 then (if x1 = 0 then (some ((0 : Int32), d)) else (ev (wi d x0 33 (1 : Int32)) fun s5 => ev (wi s5 x0 32 x2) fun s6 => some (x1, s6))) else ((f_X1_isGrass n g d x0 x3).bind fun r7 => if r7 = 0 then (f_X1_grass_L39 n g m x0 x1 x2 (x3 + (1 : Int32)) d) else (ev (x2 &&& x3) fun v9 => f_X1_grass_L39 n g m x0 (x1 + (1 : Int32)) v9 (x3 + (1 : Int32)) d)) else none
set_option maxHeartbeats 4000000 in
theorem w_X1_grass_39 {K : KT} {T : CT} {r : Int32} {τ : CD} (n : Nat) (g : CG) (C : Kok K cX1_grass 4 RX1) (B : CB K T) (hr : (kMe K).sig.returnType = (some .int)) (dK : kR K = rmC 5 0 0) (hQ : KQc K T (some (.int r)) 0 0 g τ) : ∀ (m : Nat) (x0 : Nat) (x1 : Int32) (x2 : Int32) (x3 : Int32) (d : CD) (hf : f_X1_grass_L39 n g m x0 x1 x2 x3 d = some (r, τ)), XJ K 4 (Wc K T 0 0 g d) 39 [(0, .ref x0), (1, .int x1), (2, .int x2), (3, .int x3)] [] := by
  intro m
  induction m with
  | zero => intro x0 x1 x2 x3 d hf; cases hf
  | succ m ih =>
    intro x0 x1 x2 x3 d hf
    rw [f_X1_grass_L39] at hf
    refine x_iload_n C dX1_grass_39 3 rfl ?_
    refine x_aload_n C dX1_grass_40 0 rfl ?_
    obtain ⟨t1, hf⟩ := pf_ch hf
    obtain ⟨r2, er2, hf⟩ := pf_b hf
    refine k_X1_all_X1 C B t1 dK (Nat.le_of_ble_eq_true rfl) cz er2 (Nat.le_of_ble_eq_true rfl) dX1_grass_41 ?_
    refine x_icmp_gt (tgt := 71) C dX1_grass_44 (by decide) (fun c3 => ?_) (fun c3 => ?_)
    · have hf := pf_t c3 hf
      refine x_iload_n C dX1_grass_71 1 rfl ?_
      refine x_if_ne (tgt := 77) C dX1_grass_72 (by decide) (fun c4 => ?_) (fun c4 => ?_)
      · have hf := pf_f c4 hf
        refine x_aload_n C dX1_grass_77 0 rfl ?_
        refine x_iconst (1 : Int32) C dX1_grass_78 (by decide) ?_
        refine cp1_33 C B t1 (flo C q652) fsm (Or.inr rfl) dX1_grass_79 ?_
        obtain ⟨s5, es5, hf⟩ := pf_e hf
        refine c_ren es5 ?_
        refine x_aload_n C dX1_grass_82 0 rfl ?_
        refine x_iload_n C dX1_grass_83 2 rfl ?_
        refine cp1_32 C B t1 (flo C q651) fsm dX1_grass_84 ?_
        obtain ⟨s6, es6, hf⟩ := pf_e hf
        refine c_ren es6 ?_
        refine x_iload_n C dX1_grass_87 1 rfl ?_
        obtain ⟨rfl, rfl⟩ := Prod.mk.inj (Option.some.inj hf)
        exact c_iret C hr hQ dX1_grass_88
      · have hf := pf_t c4 hf
        refine x_iconst (0 : Int32) C dX1_grass_75 (by decide) ?_
        obtain ⟨rfl, rfl⟩ := Prod.mk.inj (Option.some.inj hf)
        exact c_iret C hr hQ dX1_grass_76
    · have hf := pf_f c3 hf
      refine x_aload_n C dX1_grass_47 0 rfl ?_
      refine x_iload_n C dX1_grass_48 3 rfl ?_
      obtain ⟨r7, er7, hf⟩ := pf_b hf
      refine k_X1_isGrass_X1 C B t1 dK (Nat.le_of_ble_eq_true rfl) cz er7 (Nat.le_of_ble_eq_true rfl) dX1_grass_49 ?_
      refine x_if_ne (tgt := 58) C dX1_grass_52 (by decide) (fun c8 => ?_) (fun c8 => ?_)
      · have hf := pf_f c8 hf
        refine x_inc (c := (1 : Int32)) (L' := [(0, .ref x0), (1, .int (x1 + (1 : Int32))), (2, .int x2), (3, .int x3)]) C dX1_grass_58 1 rfl (by decide) (Nat.le_of_ble_eq_true rfl) [1, 0, 2, 3] rfl ?_
        refine x_iload_n C dX1_grass_61 2 rfl ?_
        refine x_iload_n C dX1_grass_62 3 rfl ?_
        refine x_iand C dX1_grass_63 ?_
        obtain ⟨v9, ev9, hf⟩ := pf_e hf
        refine x_topir ev9 ?_
        refine x_istore_n (L' := [(0, .ref x0), (1, .int (x1 + (1 : Int32))), (2, .int v9), (3, .int x3)]) C dX1_grass_64 (Nat.le_of_ble_eq_true rfl) [1, 2, 0, 3] rfl ?_
        refine x_inc (c := (1 : Int32)) (L' := [(0, .ref x0), (1, .int (x1 + (1 : Int32))), (2, .int v9), (3, .int (x3 + (1 : Int32)))]) C dX1_grass_65 3 rfl (by decide) (Nat.le_of_ble_eq_true rfl) [1, 2, 3, 0] rfl ?_
        refine x_goto (tgt := 39) C dX1_grass_68 (by decide) ?_
        exact ih x0 (x1 + (1 : Int32)) v9 (x3 + (1 : Int32)) _ hf
      · have hf := pf_t c8 hf
        refine x_goto (tgt := 65) C dX1_grass_55 (by decide) ?_
        refine x_inc (c := (1 : Int32)) (L' := [(0, .ref x0), (1, .int x1), (2, .int x2), (3, .int (x3 + (1 : Int32)))]) C dX1_grass_65 3 rfl (by decide) (Nat.le_of_ble_eq_true rfl) [1, 2, 3, 0] rfl ?_
        refine x_goto (tgt := 39) C dX1_grass_68 (by decide) ?_
        exact ih x0 x1 x2 (x3 + (1 : Int32)) _ hf
def f_X1_grass (n : Nat) (g : CG) (x0 : Nat) (d : CD) : Option (Int32 × CD) := if ht g x0 = 1 then (f_X1_taken g x0 d).bind fun r2 => (hr g x0 6).bind fun p3 => if ht g p3 = 3 then if (hi r2 p3 17) = 0 then (some ((-1 : Int32), r2)) else (if (hi r2 x0 2) = (hi r2 p3 17) then ((f_X1_all g r2 x0).bind fun r7 => f_X1_grass_L39 n g n x0 (0 : Int32) r7 (0 : Int32) r2) else (some ((-1 : Int32), r2))) else none else none
set_option maxHeartbeats 4000000 in
theorem w_X1_grass_E {K : KT} {T : CT} {r : Int32} {τ : CD} (n : Nat) (g : CG) (C : Kok K cX1_grass 4 RX1) (B : CB K T) (hr : (kMe K).sig.returnType = (some .int)) (dK : kR K = rmC 5 0 0) (hQ : KQc K T (some (.int r)) 0 0 g τ) (x0 : Nat) (d : CD) (hf : f_X1_grass n g x0 d = some (r, τ)) : XJ K 4 (Wc K T 0 0 g d) 0 [(0, .ref x0)] [] := by
  unfold f_X1_grass at hf
  refine x_aload_n C dX1_grass_0 0 rfl ?_
  obtain ⟨t1, hf⟩ := pf_ch hf
  obtain ⟨r2, er2, hf⟩ := pf_b hf
  refine k_X1_taken_X1 C B t1 dK (Nat.le_of_ble_eq_true rfl) cz er2 (Nat.le_of_ble_eq_true rfl) dX1_grass_1 ?_
  refine x_aload_n C dX1_grass_4 0 rfl ?_
  obtain ⟨p3, ep3, hf⟩ := pf_b hf
  refine cg1_6 C B t1 (flo C q621) fsm ep3 dX1_grass_5 ?_
  obtain ⟨t4, hf⟩ := pf_ch hf
  refine cg3_17 C B t4 (fln B q326) fsm dX1_grass_8 ?_
  refine x_if_eq (tgt := 28) C dX1_grass_11 (by decide) (fun c5 => ?_) (fun c5 => ?_)
  · have hf := pf_t c5 hf
    refine x_iconst (-1 : Int32) C dX1_grass_28 (by decide) ?_
    obtain ⟨rfl, rfl⟩ := Prod.mk.inj (Option.some.inj hf)
    exact c_iret C hr hQ dX1_grass_29
  · have hf := pf_f c5 hf
    refine x_aload_n C dX1_grass_14 0 rfl ?_
    refine cg1_2 C B t1 (flo C q613) fsm dX1_grass_15 ?_
    refine x_aload_n C dX1_grass_18 0 rfl ?_
    refine cg1_6 C B t1 (flo C q621) fsm ep3 dX1_grass_19 ?_
    refine cg3_17 C B t4 (fln B q326) fsm dX1_grass_22 ?_
    refine x_icmp_eq (tgt := 30) C dX1_grass_25 (by decide) (fun c6 => ?_) (fun c6 => ?_)
    · have hf := pf_t c6 hf
      refine x_iconst (0 : Int32) C dX1_grass_30 (by decide) ?_
      refine x_istore_n (L' := [(0, .ref x0), (1, .int (0 : Int32))]) C dX1_grass_31 (Nat.le_of_ble_eq_true rfl) [1, 0] rfl ?_
      refine x_aload_n C dX1_grass_32 0 rfl ?_
      obtain ⟨r7, er7, hf⟩ := pf_b hf
      refine k_X1_all_X1 C B t1 dK (Nat.le_of_ble_eq_true rfl) cz er7 (Nat.le_of_ble_eq_true rfl) dX1_grass_33 ?_
      refine x_istore_n (L' := [(0, .ref x0), (1, .int (0 : Int32)), (2, .int r7)]) C dX1_grass_36 (Nat.le_of_ble_eq_true rfl) [1, 2, 0] rfl ?_
      refine x_iconst (0 : Int32) C dX1_grass_37 (by decide) ?_
      refine x_istore_n (L' := [(0, .ref x0), (1, .int (0 : Int32)), (2, .int r7), (3, .int (0 : Int32))]) C dX1_grass_38 (Nat.le_of_ble_eq_true rfl) [1, 2, 3, 0] rfl ?_
      exact w_X1_grass_39 n g C B hr dK hQ n x0 (0 : Int32) r7 (0 : Int32) _ hf
    · have hf := pf_f c6 hf
      refine x_iconst (-1 : Int32) C dX1_grass_28 (by decide) ?_
      obtain ⟨rfl, rfl⟩ := Prod.mk.inj (Option.some.inj hf)
      exact c_iret C hr hQ dX1_grass_29
theorem met_X1_grass {T : CT} {v : (Int32 × CD)} {n : Nat} {g : CG} {d : CD} {x0 : Nat} {l : Launch} (hf : f_X1_grass n g x0 d = some v) : Met l yX1_grass (ws_ yX1_grass cX1_grass 4 (some .int)) (rmC 5 0 0) (va_Pc [.ref x0] (CU T g d)) (Qc T (some (.int v.1)) g v.2) 0 0 (cA T) :=
  c_met [.ref x0] RX1 (by decide) rfl (Nat.le_of_ble_eq_true rfl) (fun K hl hR hr C B hQ => w_X1_grass_E _ _ C B hr hR hQ _ _ hf)
def f_X1_isKind (g : CG) (d : CD) (x0 : Nat) (x1 : Int32) : Option Int32 := if ht g x0 = 1 then (hr g x0 6).bind fun p2 => if ht g p2 = 3 then some (f_X1_isIn x1 (0 : Int32) ((hi d p2 19) - (1 : Int32))) else none else none
set_option maxHeartbeats 4000000 in
theorem w_X1_isKind_E {K : KT} {T : CT} {r : Int32} (g : CG) (d : CD) (C : Kok K cX1_isKind 2 RX1) (B : CB K T) (hr : (kMe K).sig.returnType = (some .boolean)) (dK : kR K = rmC 3 0 0) (hQ : KQc K T (some (.int r)) 0 0 g d) (x0 : Nat) (x1 : Int32) (hf : f_X1_isKind g d x0 x1 = some r) : XJ K 2 (Wc K T 0 0 g d) 0 [(0, .ref x0), (1, .int x1)] [] := by
  unfold f_X1_isKind at hf
  refine x_iload_n C dX1_isKind_0 1 rfl ?_
  refine x_iconst (0 : Int32) C dX1_isKind_1 (by decide) ?_
  refine x_aload_n C dX1_isKind_2 0 rfl ?_
  obtain ⟨t1, hf⟩ := pf_ch hf
  obtain ⟨p2, ep2, hf⟩ := pf_b hf
  refine cg1_6 C B t1 (flo C q621) fsm ep2 dX1_isKind_3 ?_
  obtain ⟨t3, hf⟩ := pf_ch hf
  refine cg3_19 C B t3 (fln B q333) fsm dX1_isKind_6 ?_
  refine x_iconst (1 : Int32) C dX1_isKind_9 (by decide) ?_
  refine x_isub C dX1_isKind_10 ?_
  refine k_X1_isIn_X1 C B dK (Nat.le_of_ble_eq_true rfl) cz rfl (Nat.le_of_ble_eq_true rfl) dX1_isKind_11 ?_
  obtain rfl := Option.some.inj hf
  exact c_zret C hr (bz_X1_isIn_E rfl) hQ dX1_isKind_14
theorem bz_X1_isKind_E {r : Int32} {g : CG} {d : CD} {x0 : Nat} {x1 : Int32} (hf : f_X1_isKind g d x0 x1 = some r) : r = 0 ∨ r = 1 := by
  unfold f_X1_isKind at hf
  obtain ⟨t1, hf⟩ := pf_ch hf
  obtain ⟨p2, ep2, hf⟩ := pf_b hf
  obtain ⟨t3, hf⟩ := pf_ch hf
  obtain rfl := Option.some.inj hf
  exact (bz_X1_isIn_E rfl)
theorem met_X1_isKind {T : CT} {v : Int32} {g : CG} {d : CD} {x0 : Nat} {x1 : Int32} {l : Launch} (hf : f_X1_isKind g d x0 x1 = some v) : Met l yX1_isKind (ws_ yX1_isKind cX1_isKind 2 (some .boolean)) (rmC 3 0 0) (va_Pc [.ref x0, .int x1] (CU T g d)) (Qc T (some (.int v)) g d) 0 0 (cA T) :=
  c_met [.ref x0, .int x1] RX1 (by decide) rfl (Nat.le_of_ble_eq_true rfl) (fun K hl hR hr C B hQ => w_X1_isKind_E _ _ C B hr hR hQ _ _ hf)
theorem k_X1_has_X1 {K : KT} {T : CT} {c0 s0 c1 s1 dk : Nat} {cc : ByteArray} {nL pc : Nat} {L : List (Nat × Value)} {rest : List Value} {g : CG} {d : CD} {v : Int32} {x0 : Int32} {x1 : Int32} (C : Kok K cc nL RX1) (B : CB K T) (dK : kR K = rmC dk c1 s1) (hd : 2 + 1 ≤ dk) (hcs : c0 + 0 ≤ c1 ∧ s0 + 0 ≤ s1) (hf : f_X1_has x0 x1 = v) (hW : (rest.map fun v => v.category).sum ≤ 8) (dd : decode cc pc = .ok (.invokestatic 388, 3)) (kk2 : XJ K nL (Wc K T c0 s0 g d) (pc + 3) L ((.int v) :: rest)) : XJ K nL (Wc K T c0 s0 g d) pc L (.int x1 :: .int x0 :: rest) :=
  c_callS (rest := rest) (v := (some (.int v))) [.int x0, .int x1] 2 rfl C B dK hd (Nat.le_of_ble_eq_true rfl) hcs (lw_S q1169 q929 q121 q930) (by decide +kernel) (met_X1_has hf) rfl hW dd kk2
def f_X1_isTaste_L2 (n : Nat) (g : CG) (d : CD) : Nat → Nat → Int32 → Int32 → Option Int32
  | 0, _, _, _ => none
  | m + 1, x0, x1, x2 => if ht g x0 = 1 then if (hi d x0 2) ≤ x2 then (some (1 : Int32)) else ((hr g x0 7).bind fun p3 => if ht g p3 = 4 then (hr g p3 0).bind fun p5 => (f_X1_one g d x0 x2).bind fun r6 => if ht g p5 = 105 then if inb r6 (hn g p5) = true then (hr g p5 (Int32.toNatClampNeg r6)).bind fun p9 => if ht g p9 = 5 then (f_X1_one g d x0 (x2 + (1 : Int32))).bind fun r11 => if r11 = (1 : Int32) then (if (f_X1_has x1 (hi d p9 0)) = (1 : Int32) then (f_X1_isTaste_L2 n g d m x0 x1 (x2 + (2 : Int32))) else (some (0 : Int32))) else (if (f_X1_has x1 (hi d p9 0)) = (0 : Int32) then (f_X1_isTaste_L2 n g d m x0 x1 (x2 + (2 : Int32))) else (some (0 : Int32))) else none else none else none else none) else none
set_option maxHeartbeats 4000000 in
theorem w_X1_isTaste_2 {K : KT} {T : CT} {r : Int32} (n : Nat) (g : CG) (d : CD) (C : Kok K cX1_isTaste 3 RX1) (B : CB K T) (hr : (kMe K).sig.returnType = (some .boolean)) (dK : kR K = rmC 3 0 0) (hQ : KQc K T (some (.int r)) 0 0 g d) : ∀ (m : Nat) (x0 : Nat) (x1 : Int32) (x2 : Int32) (hf : f_X1_isTaste_L2 n g d m x0 x1 x2 = some r), XJ K 3 (Wc K T 0 0 g d) 2 [(0, .ref x0), (1, .int x1), (2, .int x2)] [] := by
  intro m
  induction m with
  | zero => intro x0 x1 x2 hf; cases hf
  | succ m ih =>
    intro x0 x1 x2 hf
    rw [f_X1_isTaste_L2] at hf
    refine x_iload_n C dX1_isTaste_2 2 rfl ?_
    refine x_aload_n C dX1_isTaste_3 0 rfl ?_
    obtain ⟨t1, hf⟩ := pf_ch hf
    refine cg1_2 C B t1 (flo C q613) fsm dX1_isTaste_4 ?_
    refine x_icmp_ge (tgt := 57) C dX1_isTaste_7 (by decide) (fun c2 => ?_) (fun c2 => ?_)
    · have hf := pf_t c2 hf
      refine x_iconst (1 : Int32) C dX1_isTaste_57 (by decide) ?_
      obtain rfl := Option.some.inj hf
      exact c_zret C hr (Or.inr rfl) hQ dX1_isTaste_58
    · have hf := pf_f c2 hf
      refine x_iload_n C dX1_isTaste_10 1 rfl ?_
      refine x_aload_n C dX1_isTaste_11 0 rfl ?_
      obtain ⟨p3, ep3, hf⟩ := pf_b hf
      refine cg1_7 C B t1 (flo C q624) fsm ep3 dX1_isTaste_12 ?_
      obtain ⟨t4, hf⟩ := pf_ch hf
      obtain ⟨p5, ep5, hf⟩ := pf_b hf
      refine cg4_0 C B t4 (fln B q451) fsm ep5 dX1_isTaste_15 ?_
      refine x_aload_n C dX1_isTaste_18 0 rfl ?_
      refine x_iload_n C dX1_isTaste_19 2 rfl ?_
      obtain ⟨r6, er6, hf⟩ := pf_b hf
      refine k_X1_one_X1 C B t1 dK (Nat.le_of_ble_eq_true rfl) cz er6 (Nat.le_of_ble_eq_true rfl) dX1_isTaste_20 ?_
      obtain ⟨t7, hf⟩ := pf_ch hf
      obtain ⟨h8, hf⟩ := pf_in hf
      obtain ⟨p9, ep9, hf⟩ := pf_b hf
      refine ca_ald5 C B t7 h8 ep9 dX1_isTaste_23 ?_
      obtain ⟨t10, hf⟩ := pf_ch hf
      refine cg5_0 C B t10 (fln B q412) fsm dX1_isTaste_24 ?_
      refine k_X1_has_X1 C B dK (Nat.le_of_ble_eq_true rfl) cz rfl (Nat.le_of_ble_eq_true rfl) dX1_isTaste_27 ?_
      refine x_aload_n C dX1_isTaste_30 0 rfl ?_
      refine x_iload_n C dX1_isTaste_31 2 rfl ?_
      refine x_iconst (1 : Int32) C dX1_isTaste_32 (by decide) ?_
      refine x_iadd C dX1_isTaste_33 ?_
      obtain ⟨r11, er11, hf⟩ := pf_b hf
      refine k_X1_one_X1 C B t1 dK (Nat.le_of_ble_eq_true rfl) cz er11 (Nat.le_of_ble_eq_true rfl) dX1_isTaste_34 ?_
      refine x_iconst (1 : Int32) C dX1_isTaste_37 (by decide) ?_
      refine x_icmp_ne (tgt := 45) C dX1_isTaste_38 (by decide) (fun c12 => ?_) (fun c12 => ?_)
      · have hf := pf_f c12 hf
        refine x_iconst (0 : Int32) C dX1_isTaste_45 (by decide) ?_
        refine x_icmp_eq (tgt := 51) C dX1_isTaste_46 (by decide) (fun c13 => ?_) (fun c13 => ?_)
        · have hf := pf_t c13 hf
          refine x_inc (c := (2 : Int32)) (L' := [(0, .ref x0), (1, .int x1), (2, .int (x2 + (2 : Int32)))]) C dX1_isTaste_51 2 rfl (by decide) (Nat.le_of_ble_eq_true rfl) [1, 2, 0] rfl ?_
          refine x_goto (tgt := 2) C dX1_isTaste_54 (by decide) ?_
          exact ih x0 x1 (x2 + (2 : Int32)) hf
        · have hf := pf_f c13 hf
          refine x_iconst (0 : Int32) C dX1_isTaste_49 (by decide) ?_
          obtain rfl := Option.some.inj hf
          exact c_zret C hr (Or.inl rfl) hQ dX1_isTaste_50
      · have hf := pf_t c12 hf
        refine x_iconst (1 : Int32) C dX1_isTaste_41 (by decide) ?_
        refine x_goto (tgt := 46) C dX1_isTaste_42 (by decide) ?_
        refine x_icmp_eq (tgt := 51) C dX1_isTaste_46 (by decide) (fun c14 => ?_) (fun c14 => ?_)
        · have hf := pf_t c14 hf
          refine x_inc (c := (2 : Int32)) (L' := [(0, .ref x0), (1, .int x1), (2, .int (x2 + (2 : Int32)))]) C dX1_isTaste_51 2 rfl (by decide) (Nat.le_of_ble_eq_true rfl) [1, 2, 0] rfl ?_
          refine x_goto (tgt := 2) C dX1_isTaste_54 (by decide) ?_
          exact ih x0 x1 (x2 + (2 : Int32)) hf
        · have hf := pf_f c14 hf
          refine x_iconst (0 : Int32) C dX1_isTaste_49 (by decide) ?_
          obtain rfl := Option.some.inj hf
          exact c_zret C hr (Or.inl rfl) hQ dX1_isTaste_50
theorem bz_X1_isTaste_2 {r : Int32} {n : Nat} {g : CG} {d : CD} : ∀ (m : Nat) (x0 : Nat) (x1 : Int32) (x2 : Int32) (hf : f_X1_isTaste_L2 n g d m x0 x1 x2 = some r), r = 0 ∨ r = 1 := by
  intro m
  induction m with
  | zero => intro x0 x1 x2 hf; cases hf
  | succ m ih =>
    intro x0 x1 x2 hf
    rw [f_X1_isTaste_L2] at hf
    obtain ⟨t1, hf⟩ := pf_ch hf
    by_cases c2 : (hi d x0 2) ≤ x2
    · have hf := pf_t c2 hf
      obtain rfl := Option.some.inj hf
      exact (Or.inr rfl)
    · have hf := pf_f c2 hf
      obtain ⟨p3, ep3, hf⟩ := pf_b hf
      obtain ⟨t4, hf⟩ := pf_ch hf
      obtain ⟨p5, ep5, hf⟩ := pf_b hf
      obtain ⟨r6, er6, hf⟩ := pf_b hf
      obtain ⟨t7, hf⟩ := pf_ch hf
      obtain ⟨h8, hf⟩ := pf_in hf
      obtain ⟨p9, ep9, hf⟩ := pf_b hf
      obtain ⟨t10, hf⟩ := pf_ch hf
      obtain ⟨r11, er11, hf⟩ := pf_b hf
      by_cases c12 : r11 = (1 : Int32)
      · have hf := pf_t c12 hf
        by_cases c14 : (f_X1_has x1 (hi d p9 0)) = (1 : Int32)
        · have hf := pf_t c14 hf
          exact ih x0 x1 (x2 + (2 : Int32)) hf
        · have hf := pf_f c14 hf
          obtain rfl := Option.some.inj hf
          exact (Or.inl rfl)
      · have hf := pf_f c12 hf
        by_cases c13 : (f_X1_has x1 (hi d p9 0)) = (0 : Int32)
        · have hf := pf_t c13 hf
          exact ih x0 x1 (x2 + (2 : Int32)) hf
        · have hf := pf_f c13 hf
          obtain rfl := Option.some.inj hf
          exact (Or.inl rfl)
def f_X1_isTaste (n : Nat) (g : CG) (d : CD) (x0 : Nat) (x1 : Int32) : Option Int32 := f_X1_isTaste_L2 n g d n x0 x1 (0 : Int32)
set_option maxHeartbeats 4000000 in
theorem w_X1_isTaste_E {K : KT} {T : CT} {r : Int32} (n : Nat) (g : CG) (d : CD) (C : Kok K cX1_isTaste 3 RX1) (B : CB K T) (hr : (kMe K).sig.returnType = (some .boolean)) (dK : kR K = rmC 3 0 0) (hQ : KQc K T (some (.int r)) 0 0 g d) (x0 : Nat) (x1 : Int32) (hf : f_X1_isTaste n g d x0 x1 = some r) : XJ K 3 (Wc K T 0 0 g d) 0 [(0, .ref x0), (1, .int x1)] [] := by
  unfold f_X1_isTaste at hf
  refine x_iconst (0 : Int32) C dX1_isTaste_0 (by decide) ?_
  refine x_istore_n (L' := [(0, .ref x0), (1, .int x1), (2, .int (0 : Int32))]) C dX1_isTaste_1 (Nat.le_of_ble_eq_true rfl) [1, 2, 0] rfl ?_
  exact w_X1_isTaste_2 n g d C B hr dK hQ n x0 x1 (0 : Int32) hf
theorem bz_X1_isTaste_E {r : Int32} {n : Nat} {g : CG} {d : CD} {x0 : Nat} {x1 : Int32} (hf : f_X1_isTaste n g d x0 x1 = some r) : r = 0 ∨ r = 1 := by
  unfold f_X1_isTaste at hf
  exact bz_X1_isTaste_2 n x0 x1 (0 : Int32) hf
theorem met_X1_isTaste {T : CT} {v : Int32} {n : Nat} {g : CG} {d : CD} {x0 : Nat} {x1 : Int32} {l : Launch} (hf : f_X1_isTaste n g d x0 x1 = some v) : Met l yX1_isTaste (ws_ yX1_isTaste cX1_isTaste 3 (some .boolean)) (rmC 3 0 0) (va_Pc [.ref x0, .int x1] (CU T g d)) (Qc T (some (.int v)) g d) 0 0 (cA T) :=
  c_met [.ref x0, .int x1] RX1 (by decide) rfl (Nat.le_of_ble_eq_true rfl) (fun K hl hR hr C B hQ => w_X1_isTaste_E _ _ _ C B hr hR hQ _ _ hf)
def f_X1_isWalker (g : CG) (d : CD) (x0 : Nat) (x1 : Int32) : Option Int32 := if ht g x0 = 1 then (hr g x0 6).bind fun p2 => if ht g p2 = 3 then some (f_X1_isIn x1 (0 : Int32) ((hi d p2 21) - (1 : Int32))) else none else none
set_option maxHeartbeats 4000000 in
theorem w_X1_isWalker_E {K : KT} {T : CT} {r : Int32} (g : CG) (d : CD) (C : Kok K cX1_isWalker 2 RX1) (B : CB K T) (hr : (kMe K).sig.returnType = (some .boolean)) (dK : kR K = rmC 3 0 0) (hQ : KQc K T (some (.int r)) 0 0 g d) (x0 : Nat) (x1 : Int32) (hf : f_X1_isWalker g d x0 x1 = some r) : XJ K 2 (Wc K T 0 0 g d) 0 [(0, .ref x0), (1, .int x1)] [] := by
  unfold f_X1_isWalker at hf
  refine x_iload_n C dX1_isWalker_0 1 rfl ?_
  refine x_iconst (0 : Int32) C dX1_isWalker_1 (by decide) ?_
  refine x_aload_n C dX1_isWalker_2 0 rfl ?_
  obtain ⟨t1, hf⟩ := pf_ch hf
  obtain ⟨p2, ep2, hf⟩ := pf_b hf
  refine cg1_6 C B t1 (flo C q621) fsm ep2 dX1_isWalker_3 ?_
  obtain ⟨t3, hf⟩ := pf_ch hf
  refine cg3_21 C B t3 (fln B q341) fsm dX1_isWalker_6 ?_
  refine x_iconst (1 : Int32) C dX1_isWalker_9 (by decide) ?_
  refine x_isub C dX1_isWalker_10 ?_
  refine k_X1_isIn_X1 C B dK (Nat.le_of_ble_eq_true rfl) cz rfl (Nat.le_of_ble_eq_true rfl) dX1_isWalker_11 ?_
  obtain rfl := Option.some.inj hf
  exact c_zret C hr (bz_X1_isIn_E rfl) hQ dX1_isWalker_14
theorem bz_X1_isWalker_E {r : Int32} {g : CG} {d : CD} {x0 : Nat} {x1 : Int32} (hf : f_X1_isWalker g d x0 x1 = some r) : r = 0 ∨ r = 1 := by
  unfold f_X1_isWalker at hf
  obtain ⟨t1, hf⟩ := pf_ch hf
  obtain ⟨p2, ep2, hf⟩ := pf_b hf
  obtain ⟨t3, hf⟩ := pf_ch hf
  obtain rfl := Option.some.inj hf
  exact (bz_X1_isIn_E rfl)
theorem met_X1_isWalker {T : CT} {v : Int32} {g : CG} {d : CD} {x0 : Nat} {x1 : Int32} {l : Launch} (hf : f_X1_isWalker g d x0 x1 = some v) : Met l yX1_isWalker (ws_ yX1_isWalker cX1_isWalker 2 (some .boolean)) (rmC 3 0 0) (va_Pc [.ref x0, .int x1] (CU T g d)) (Qc T (some (.int v)) g d) 0 0 (cA T) :=
  c_met [.ref x0, .int x1] RX1 (by decide) rfl (Nat.le_of_ble_eq_true rfl) (fun K hl hR hr C B hQ => w_X1_isWalker_E _ _ C B hr hR hQ _ _ hf)
def f_X1_stay_L22 (n : Nat) (g : CG) : Nat → Nat → Int32 → Int32 → Int32 → Int32 → CD → Option (Int32 × CD)
  | 0, _, _, _, _, _, _ => none
  | m + 1, x0, x1, x2, x4, x5, d => if x2 ≤ x5 then (some ((1 : Int32), d)) else (if ht g x0 = 1 then (hr g x0 8).bind fun p3 => if ht g p3 = 4 then if (400 : Int32) ≤ (hi d p3 4) then (some ((1 : Int32), d)) else ((hr g x0 6).bind fun p6 => (f_X4_dawn n g p3 p6 x4 d).bind fun r7 => if (r7.1 &&& x1) = 0 then ((f_X4_goOn n g p3 p6 r7.2).bind fun r9 => f_X1_stay_L22 n g m x0 x1 x2 x4 (x5 + (1 : Int32)) r9) else (some ((0 : Int32), r7.2))) else none else none)
set_option maxHeartbeats 4000000 in
theorem w_X1_stay_22 {K : KT} {T : CT} {r : Int32} {τ : CD} (n : Nat) (g : CG) (C : Kok K cX1_stay 6 RX1) (B : CB K T) (hr : (kMe K).sig.returnType = (some .boolean)) (dK : kR K = rmC 5 0 0) (hQ : KQc K T (some (.int r)) 0 0 g τ) : ∀ (m : Nat) (x0 : Nat) (x1 : Int32) (x2 : Int32) (x4 : Int32) (x5 : Int32) (d : CD) (hf : f_X1_stay_L22 n g m x0 x1 x2 x4 x5 d = some (r, τ)), XJ K 6 (Wc K T 0 0 g d) 22 [(0, .ref x0), (1, .int x1), (2, .int x2), (4, .int x4), (5, .int x5)] [] := by
  intro m
  induction m with
  | zero => intro x0 x1 x2 x4 x5 d hf; cases hf
  | succ m ih =>
    intro x0 x1 x2 x4 x5 d hf
    rw [f_X1_stay_L22] at hf
    refine x_iload C dX1_stay_22 4 rfl ?_
    refine x_iload_n C dX1_stay_24 2 rfl ?_
    refine x_icmp_ge (tgt := 78) C dX1_stay_25 (by decide) (fun c1 => ?_) (fun c1 => ?_)
    · have hf := pf_t c1 hf
      refine x_iconst (1 : Int32) C dX1_stay_78 (by decide) ?_
      obtain ⟨rfl, rfl⟩ := Prod.mk.inj (Option.some.inj hf)
      exact c_zret C hr (Or.inr rfl) hQ dX1_stay_79
    · have hf := pf_f c1 hf
      refine x_aload_n C dX1_stay_28 0 rfl ?_
      obtain ⟨t2, hf⟩ := pf_ch hf
      obtain ⟨p3, ep3, hf⟩ := pf_b hf
      refine cg1_8 C B t2 (flo C q627) fsm ep3 dX1_stay_29 ?_
      obtain ⟨t4, hf⟩ := pf_ch hf
      refine cg4_4 C B t4 (fln B q459) fsm dX1_stay_32 ?_
      refine x_sipush (400 : Int32) C dX1_stay_35 (by decide) ?_
      refine x_icmp_ge (tgt := 78) C dX1_stay_38 (by decide) (fun c5 => ?_) (fun c5 => ?_)
      · have hf := pf_t c5 hf
        refine x_iconst (1 : Int32) C dX1_stay_78 (by decide) ?_
        obtain ⟨rfl, rfl⟩ := Prod.mk.inj (Option.some.inj hf)
        exact c_zret C hr (Or.inr rfl) hQ dX1_stay_79
      · have hf := pf_f c5 hf
        refine x_aload_n C dX1_stay_41 0 rfl ?_
        refine cg1_8 C B t2 (flo C q627) fsm ep3 dX1_stay_42 ?_
        refine x_aload_n C dX1_stay_45 0 rfl ?_
        obtain ⟨p6, ep6, hf⟩ := pf_b hf
        refine cg1_6 C B t2 (flo C q621) fsm ep6 dX1_stay_46 ?_
        refine x_iload C dX1_stay_49 3 rfl ?_
        obtain ⟨r7, er7, hf⟩ := pf_b hf
        refine k_X4_dawn_X1 C B t4 dK (Nat.le_of_ble_eq_true rfl) cz er7 (Nat.le_of_ble_eq_true rfl) dX1_stay_51 ?_
        refine x_iload_n C dX1_stay_54 1 rfl ?_
        refine x_iand C dX1_stay_55 ?_
        refine x_if_eq (tgt := 61) C dX1_stay_56 (by decide) (fun c8 => ?_) (fun c8 => ?_)
        · have hf := pf_t c8 hf
          refine x_aload_n C dX1_stay_61 0 rfl ?_
          refine cg1_8 C B t2 (flo C q627) fsm ep3 dX1_stay_62 ?_
          refine x_aload_n C dX1_stay_65 0 rfl ?_
          refine cg1_6 C B t2 (flo C q621) fsm ep6 dX1_stay_66 ?_
          obtain ⟨r9, er9, hf⟩ := pf_b hf
          refine k_X4_goOn_X1 C B t4 dK (Nat.le_of_ble_eq_true rfl) cz er9 (Nat.le_of_ble_eq_true rfl) dX1_stay_69 ?_
          refine x_inc (c := (1 : Int32)) (L' := [(0, .ref x0), (1, .int x1), (2, .int x2), (4, .int x4), (5, .int (x5 + (1 : Int32)))]) C dX1_stay_72 4 rfl (by decide) (Nat.le_of_ble_eq_true rfl) [1, 2, 3, 4, 0] rfl ?_
          refine x_goto (tgt := 22) C dX1_stay_75 (by decide) ?_
          exact ih x0 x1 x2 x4 (x5 + (1 : Int32)) _ hf
        · have hf := pf_f c8 hf
          refine x_iconst (0 : Int32) C dX1_stay_59 (by decide) ?_
          obtain ⟨rfl, rfl⟩ := Prod.mk.inj (Option.some.inj hf)
          exact c_zret C hr (Or.inl rfl) hQ dX1_stay_60
theorem bz_X1_stay_22 {r : Int32} {τ : CD} {n : Nat} {g : CG} : ∀ (m : Nat) (x0 : Nat) (x1 : Int32) (x2 : Int32) (x4 : Int32) (x5 : Int32) (d : CD) (hf : f_X1_stay_L22 n g m x0 x1 x2 x4 x5 d = some (r, τ)), r = 0 ∨ r = 1 := by
  intro m
  induction m with
  | zero => intro x0 x1 x2 x4 x5 d hf; cases hf
  | succ m ih =>
    intro x0 x1 x2 x4 x5 d hf
    rw [f_X1_stay_L22] at hf
    by_cases c1 : x2 ≤ x5
    · have hf := pf_t c1 hf
      obtain ⟨rfl, rfl⟩ := Prod.mk.inj (Option.some.inj hf)
      exact (Or.inr rfl)
    · have hf := pf_f c1 hf
      obtain ⟨t2, hf⟩ := pf_ch hf
      obtain ⟨p3, ep3, hf⟩ := pf_b hf
      obtain ⟨t4, hf⟩ := pf_ch hf
      by_cases c5 : (400 : Int32) ≤ (hi d p3 4)
      · have hf := pf_t c5 hf
        obtain ⟨rfl, rfl⟩ := Prod.mk.inj (Option.some.inj hf)
        exact (Or.inr rfl)
      · have hf := pf_f c5 hf
        obtain ⟨p6, ep6, hf⟩ := pf_b hf
        obtain ⟨r7, er7, hf⟩ := pf_b hf
        by_cases c8 : (r7.1 &&& x1) = 0
        · have hf := pf_t c8 hf
          obtain ⟨r9, er9, hf⟩ := pf_b hf
          exact ih x0 x1 x2 x4 (x5 + (1 : Int32)) _ hf
        · have hf := pf_f c8 hf
          obtain ⟨rfl, rfl⟩ := Prod.mk.inj (Option.some.inj hf)
          exact (Or.inl rfl)
def f_X1_stay (n : Nat) (g : CG) (x0 : Nat) (x1 : Int32) (x2 : Int32) (x3 : Int32) (x4 : Int32) (d : CD) : Option (Int32 × CD) := if ht g x0 = 1 then (hr g x0 8).bind fun p2 => (hr g x0 7).bind fun p3 => if ht g p2 = 4 then (f_X4_be n g p2 p3 d).bind fun r5 => ev (wi r5 p2 6 x3) fun s6 => f_X1_stay_L22 n g n x0 x1 x2 x4 (0 : Int32) s6 else none else none
set_option maxHeartbeats 4000000 in
theorem w_X1_stay_E {K : KT} {T : CT} {r : Int32} {τ : CD} (n : Nat) (g : CG) (C : Kok K cX1_stay 6 RX1) (B : CB K T) (hr : (kMe K).sig.returnType = (some .boolean)) (dK : kR K = rmC 5 0 0) (hQ : KQc K T (some (.int r)) 0 0 g τ) (x0 : Nat) (x1 : Int32) (x2 : Int32) (x3 : Int32) (x4 : Int32) (d : CD) (hf : f_X1_stay n g x0 x1 x2 x3 x4 d = some (r, τ)) : XJ K 6 (Wc K T 0 0 g d) 0 [(0, .ref x0), (1, .int x1), (2, .int x2), (3, .int x3), (4, .int x4)] [] := by
  unfold f_X1_stay at hf
  refine x_aload_n C dX1_stay_0 0 rfl ?_
  obtain ⟨t1, hf⟩ := pf_ch hf
  obtain ⟨p2, ep2, hf⟩ := pf_b hf
  refine cg1_8 C B t1 (flo C q627) fsm ep2 dX1_stay_1 ?_
  refine x_aload_n C dX1_stay_4 0 rfl ?_
  obtain ⟨p3, ep3, hf⟩ := pf_b hf
  refine cg1_7 C B t1 (flo C q624) fsm ep3 dX1_stay_5 ?_
  obtain ⟨t4, hf⟩ := pf_ch hf
  obtain ⟨r5, er5, hf⟩ := pf_b hf
  refine k_X4_be_X1 C B t4 dK (Nat.le_of_ble_eq_true rfl) cz er5 (Nat.le_of_ble_eq_true rfl) dX1_stay_8 ?_
  refine x_aload_n C dX1_stay_11 0 rfl ?_
  refine cg1_8 C B t1 (flo C q627) fsm ep2 dX1_stay_12 ?_
  refine x_iload_n C dX1_stay_15 3 rfl ?_
  refine cp4_6 C B t4 (fln B q463) fsm dX1_stay_16 ?_
  obtain ⟨s6, es6, hf⟩ := pf_e hf
  refine c_ren es6 ?_
  refine x_iconst (0 : Int32) C dX1_stay_19 (by decide) ?_
  refine x_istore (L' := [(0, .ref x0), (1, .int x1), (2, .int x2), (4, .int x4), (5, .int (0 : Int32))]) C dX1_stay_20 (Nat.le_of_ble_eq_true rfl) [1, 2, 3, 5, 0] rfl ?_
  exact w_X1_stay_22 n g C B hr dK hQ n x0 x1 x2 x4 (0 : Int32) _ hf
theorem bz_X1_stay_E {r : Int32} {τ : CD} {n : Nat} {g : CG} {x0 : Nat} {x1 : Int32} {x2 : Int32} {x3 : Int32} {x4 : Int32} {d : CD} (hf : f_X1_stay n g x0 x1 x2 x3 x4 d = some (r, τ)) : r = 0 ∨ r = 1 := by
  unfold f_X1_stay at hf
  obtain ⟨t1, hf⟩ := pf_ch hf
  obtain ⟨p2, ep2, hf⟩ := pf_b hf
  obtain ⟨p3, ep3, hf⟩ := pf_b hf
  obtain ⟨t4, hf⟩ := pf_ch hf
  obtain ⟨r5, er5, hf⟩ := pf_b hf
  obtain ⟨s6, es6, hf⟩ := pf_e hf
  exact bz_X1_stay_22 n x0 x1 x2 x4 (0 : Int32) _ hf
theorem met_X1_stay {T : CT} {v : (Int32 × CD)} {n : Nat} {g : CG} {d : CD} {x0 : Nat} {x1 : Int32} {x2 : Int32} {x3 : Int32} {x4 : Int32} {l : Launch} (hf : f_X1_stay n g x0 x1 x2 x3 x4 d = some v) : Met l yX1_stay (ws_ yX1_stay cX1_stay 6 (some .boolean)) (rmC 5 0 0) (va_Pc [.ref x0, .int x1, .int x2, .int x3, .int x4] (CU T g d)) (Qc T (some (.int v.1)) g v.2) 0 0 (cA T) :=
  c_met [.ref x0, .int x1, .int x2, .int x3, .int x4] RX1 (by decide) rfl (Nat.le_of_ble_eq_true rfl) (fun K hl hR hr C B hQ => w_X1_stay_E _ _ C B hr hR hQ _ _ _ _ _ _ hf)
def f_X4_gone_L4 (n : Nat) (g : CG) (d : CD) : Nat → Nat → Nat → Int32 → Int32 → Option Int32
  | 0, _, _, _, _ => none
  | m + 1, x0, x1, x2, x3 => if ht g x1 = 3 then if (hi d x1 20) ≤ x3 then (some x2) else (if ht g x0 = 4 then (hr g x0 0).bind fun p4 => if ht g p4 = 105 then if inb x3 (hn g p4) = true then (hr g p4 (Int32.toNatClampNeg x3)).bind fun p7 => if ht g p7 = 5 then (f_X5_isGone g d p7).bind fun r9 => if r9 = 0 then (f_X4_gone_L4 n g d m x0 x1 x2 (x3 + (1 : Int32))) else (ev (x2 ||| ((1 : Int32) <<< (x3 &&& 31))) fun v11 => f_X4_gone_L4 n g d m x0 x1 v11 (x3 + (1 : Int32))) else none else none else none else none) else none
set_option maxHeartbeats 4000000 in
theorem w_X4_gone_4 {K : KT} {T : CT} {r : Int32} (n : Nat) (g : CG) (d : CD) (C : Kok K cX4_gone 4 RX4) (B : CB K T) (hr : (kMe K).sig.returnType = (some .int)) (dK : kR K = rmC 3 0 0) (hQ : KQc K T (some (.int r)) 0 0 g d) : ∀ (m : Nat) (x0 : Nat) (x1 : Nat) (x2 : Int32) (x3 : Int32) (hf : f_X4_gone_L4 n g d m x0 x1 x2 x3 = some r), XJ K 4 (Wc K T 0 0 g d) 4 [(0, .ref x0), (1, .ref x1), (2, .int x2), (3, .int x3)] [] := by
  intro m
  induction m with
  | zero => intro x0 x1 x2 x3 hf; cases hf
  | succ m ih =>
    intro x0 x1 x2 x3 hf
    rw [f_X4_gone_L4] at hf
    refine x_iload_n C dX4_gone_4 3 rfl ?_
    refine x_aload_n C dX4_gone_5 1 rfl ?_
    obtain ⟨t1, hf⟩ := pf_ch hf
    refine cg3_20 C B t1 (fln B q334) fsm dX4_gone_6 ?_
    refine x_icmp_ge (tgt := 36) C dX4_gone_9 (by decide) (fun c2 => ?_) (fun c2 => ?_)
    · have hf := pf_t c2 hf
      refine x_iload_n C dX4_gone_36 2 rfl ?_
      obtain rfl := Option.some.inj hf
      exact c_iret C hr hQ dX4_gone_37
    · have hf := pf_f c2 hf
      refine x_aload_n C dX4_gone_12 0 rfl ?_
      obtain ⟨t3, hf⟩ := pf_ch hf
      obtain ⟨p4, ep4, hf⟩ := pf_b hf
      refine cg4_0 C B t3 (flo C q447) fsm ep4 dX4_gone_13 ?_
      refine x_iload_n C dX4_gone_16 3 rfl ?_
      obtain ⟨t5, hf⟩ := pf_ch hf
      obtain ⟨h6, hf⟩ := pf_in hf
      obtain ⟨p7, ep7, hf⟩ := pf_b hf
      refine ca_ald5 C B t5 h6 ep7 dX4_gone_17 ?_
      obtain ⟨t8, hf⟩ := pf_ch hf
      obtain ⟨r9, er9, hf⟩ := pf_b hf
      refine k_X5_isGone_X4 C B t8 dK (Nat.le_of_ble_eq_true rfl) cz er9 (Nat.le_of_ble_eq_true rfl) dX4_gone_18 ?_
      refine x_if_eq (tgt := 30) C dX4_gone_21 (by decide) (fun c10 => ?_) (fun c10 => ?_)
      · have hf := pf_t c10 hf
        refine x_inc (c := (1 : Int32)) (L' := [(0, .ref x0), (1, .ref x1), (2, .int x2), (3, .int (x3 + (1 : Int32)))]) C dX4_gone_30 3 rfl (by decide) (Nat.le_of_ble_eq_true rfl) [1, 2, 3, 0] rfl ?_
        refine x_goto (tgt := 4) C dX4_gone_33 (by decide) ?_
        exact ih x0 x1 x2 (x3 + (1 : Int32)) hf
      · have hf := pf_f c10 hf
        refine x_iload_n C dX4_gone_24 2 rfl ?_
        refine x_iconst (1 : Int32) C dX4_gone_25 (by decide) ?_
        refine x_iload_n C dX4_gone_26 3 rfl ?_
        refine x_ishl C dX4_gone_27 ?_
        refine x_ior C dX4_gone_28 ?_
        obtain ⟨v11, ev11, hf⟩ := pf_e hf
        refine x_topir ev11 ?_
        refine x_istore_n (L' := [(0, .ref x0), (1, .ref x1), (2, .int v11), (3, .int x3)]) C dX4_gone_29 (Nat.le_of_ble_eq_true rfl) [1, 2, 0, 3] rfl ?_
        refine x_inc (c := (1 : Int32)) (L' := [(0, .ref x0), (1, .ref x1), (2, .int v11), (3, .int (x3 + (1 : Int32)))]) C dX4_gone_30 3 rfl (by decide) (Nat.le_of_ble_eq_true rfl) [1, 2, 3, 0] rfl ?_
        refine x_goto (tgt := 4) C dX4_gone_33 (by decide) ?_
        exact ih x0 x1 v11 (x3 + (1 : Int32)) hf
def f_X4_gone (n : Nat) (g : CG) (d : CD) (x0 : Nat) (x1 : Nat) : Option Int32 := f_X4_gone_L4 n g d n x0 x1 (0 : Int32) (0 : Int32)
set_option maxHeartbeats 4000000 in
theorem w_X4_gone_E {K : KT} {T : CT} {r : Int32} (n : Nat) (g : CG) (d : CD) (C : Kok K cX4_gone 4 RX4) (B : CB K T) (hr : (kMe K).sig.returnType = (some .int)) (dK : kR K = rmC 3 0 0) (hQ : KQc K T (some (.int r)) 0 0 g d) (x0 : Nat) (x1 : Nat) (hf : f_X4_gone n g d x0 x1 = some r) : XJ K 4 (Wc K T 0 0 g d) 0 [(0, .ref x0), (1, .ref x1)] [] := by
  unfold f_X4_gone at hf
  refine x_iconst (0 : Int32) C dX4_gone_0 (by decide) ?_
  refine x_istore_n (L' := [(0, .ref x0), (1, .ref x1), (2, .int (0 : Int32))]) C dX4_gone_1 (Nat.le_of_ble_eq_true rfl) [1, 2, 0] rfl ?_
  refine x_iconst (0 : Int32) C dX4_gone_2 (by decide) ?_
  refine x_istore_n (L' := [(0, .ref x0), (1, .ref x1), (2, .int (0 : Int32)), (3, .int (0 : Int32))]) C dX4_gone_3 (Nat.le_of_ble_eq_true rfl) [1, 2, 3, 0] rfl ?_
  exact w_X4_gone_4 n g d C B hr dK hQ n x0 x1 (0 : Int32) (0 : Int32) hf
theorem met_X4_gone {T : CT} {v : Int32} {n : Nat} {g : CG} {d : CD} {x0 : Nat} {x1 : Nat} {l : Launch} (hf : f_X4_gone n g d x0 x1 = some v) : Met l yX4_gone (ws_ yX4_gone cX4_gone 4 (some .int)) (rmC 3 0 0) (va_Pc [.ref x0, .ref x1] (CU T g d)) (Qc T (some (.int v)) g d) 0 0 (cA T) :=
  c_met [.ref x0, .ref x1] RX4 (by decide) rfl (Nat.le_of_ble_eq_true rfl) (fun K hl hR hr C B hQ => w_X4_gone_E _ _ _ C B hr hR hQ _ _ hf)
theorem k_X1_stay_X1 {K : KT} {T : CT} {c0 s0 c1 s1 dk : Nat} {cc : ByteArray} {nL pc : Nat} {L : List (Nat × Value)} {rest : List Value} {g : CG} {d : CD} {v : (Int32 × CD)} {n : Nat} {x0 : Nat} {x1 : Int32} {x2 : Int32} {x3 : Int32} {x4 : Int32} (C : Kok K cc nL RX1) (B : CB K T) (hta : ht g x0 = 1) (dK : kR K = rmC dk c1 s1) (hd : 5 + 1 ≤ dk) (hcs : c0 + 0 ≤ c1 ∧ s0 + 0 ≤ s1) (hf : f_X1_stay n g x0 x1 x2 x3 x4 d = some v) (hW : (rest.map fun v => v.category).sum ≤ 8) (dd : decode cc pc = .ok (.invokevirtual 465, 3)) (kk2 : XJ K nL (Wc K T c0 s0 g v.2) (pc + 3) L ((.int v.1) :: rest)) : XJ K nL (Wc K T c0 s0 g d) pc L (.int x4 :: .int x3 :: .int x2 :: .int x1 :: .ref x0 :: rest) :=
  c_callV (rest := rest) (v := (some (.int v.1))) [.int x1, .int x2, .int x3, .int x4] 4 rfl C B hta (by decide) (by decide) rfl dK hd (Nat.le_of_ble_eq_true rfl) hcs (lw_V q1269 q1271 qs30 q121 q1272) (by decide +kernel) (met_X1_stay hf) rfl hW dd kk2
theorem k_X4_gone_X1 {K : KT} {T : CT} {c0 s0 c1 s1 dk : Nat} {cc : ByteArray} {nL pc : Nat} {L : List (Nat × Value)} {rest : List Value} {g : CG} {d : CD} {v : Int32} {n : Nat} {x0 : Nat} {x1 : Nat} (C : Kok K cc nL RX1) (B : CB K T) (hta : ht g x0 = 4) (dK : kR K = rmC dk c1 s1) (hd : 3 + 1 ≤ dk) (hcs : c0 + 0 ≤ c1 ∧ s0 + 0 ≤ s1) (hf : f_X4_gone n g d x0 x1 = some v) (hW : (rest.map fun v => v.category).sum ≤ 8) (dd : decode cc pc = .ok (.invokevirtual 310, 3)) (kk2 : XJ K nL (Wc K T c0 s0 g d) (pc + 3) L ((.int v) :: rest)) : XJ K nL (Wc K T c0 s0 g d) pc L (.ref x1 :: .ref x0 :: rest) :=
  c_callV (rest := rest) (v := (some (.int v))) [.ref x1] 1 rfl C B hta (by decide) (by decide) rfl dK hd (Nat.le_of_ble_eq_true rfl) hcs (lw_V q1015 q1016 q1017 q126 q1018) (by decide +kernel) (met_X4_gone hf) rfl hW dd kk2
def f_X1_law_L50 (n : Nat) (g : CG) : Nat → Nat → Int32 → Int32 → Int32 → Int32 → CD → Option (Int32 × CD)
  | 0, _, _, _, _, _, _ => none
  | m + 1, x0, x1, x2, x3, x4, d => if (9 : Int32) < x4 then (some ((-1 : Int32), d)) else (if ht g x0 = 1 then (f_X1_stay n g x0 x1 x2 x3 x4 d).bind fun r3 => if r3.1 = 0 then (f_X1_law_L50 n g m x0 x1 x2 x3 (x4 + (1 : Int32)) r3.2) else (some (x4, r3.2)) else none)
set_option maxHeartbeats 4000000 in
theorem w_X1_law_50 {K : KT} {T : CT} {r : Int32} {τ : CD} (n : Nat) (g : CG) (C : Kok K cX1_law 5 RX1) (B : CB K T) (hr : (kMe K).sig.returnType = (some .int)) (dK : kR K = rmC 6 0 0) (hQ : KQc K T (some (.int r)) 0 0 g τ) : ∀ (m : Nat) (x0 : Nat) (x1 : Int32) (x2 : Int32) (x3 : Int32) (x4 : Int32) (d : CD) (hf : f_X1_law_L50 n g m x0 x1 x2 x3 x4 d = some (r, τ)), XJ K 5 (Wc K T 0 0 g d) 50 [(0, .ref x0), (1, .int x1), (2, .int x2), (3, .int x3), (4, .int x4)] [] := by
  intro m
  induction m with
  | zero => intro x0 x1 x2 x3 x4 d hf; cases hf
  | succ m ih =>
    intro x0 x1 x2 x3 x4 d hf
    rw [f_X1_law_L50] at hf
    refine x_iload C dX1_law_50 4 rfl ?_
    refine x_bipush (9 : Int32) C dX1_law_52 (by decide) ?_
    refine x_icmp_gt (tgt := 78) C dX1_law_54 (by decide) (fun c1 => ?_) (fun c1 => ?_)
    · have hf := pf_t c1 hf
      refine x_iconst (-1 : Int32) C dX1_law_78 (by decide) ?_
      obtain ⟨rfl, rfl⟩ := Prod.mk.inj (Option.some.inj hf)
      exact c_iret C hr hQ dX1_law_79
    · have hf := pf_f c1 hf
      refine x_aload_n C dX1_law_57 0 rfl ?_
      refine x_iload_n C dX1_law_58 1 rfl ?_
      refine x_iload_n C dX1_law_59 2 rfl ?_
      refine x_iload_n C dX1_law_60 3 rfl ?_
      refine x_iload C dX1_law_61 4 rfl ?_
      obtain ⟨t2, hf⟩ := pf_ch hf
      obtain ⟨r3, er3, hf⟩ := pf_b hf
      refine k_X1_stay_X1 C B t2 dK (Nat.le_of_ble_eq_true rfl) cz er3 (Nat.le_of_ble_eq_true rfl) dX1_law_63 ?_
      refine x_if_eq (tgt := 72) C dX1_law_66 (by decide) (fun c4 => ?_) (fun c4 => ?_)
      · have hf := pf_t c4 hf
        refine x_inc (c := (1 : Int32)) (L' := [(0, .ref x0), (1, .int x1), (2, .int x2), (3, .int x3), (4, .int (x4 + (1 : Int32)))]) C dX1_law_72 4 rfl (by decide) (Nat.le_of_ble_eq_true rfl) [1, 2, 3, 4, 0] rfl ?_
        refine x_goto (tgt := 50) C dX1_law_75 (by decide) ?_
        exact ih x0 x1 x2 x3 (x4 + (1 : Int32)) _ hf
      · have hf := pf_f c4 hf
        refine x_iload C dX1_law_69 4 rfl ?_
        obtain ⟨rfl, rfl⟩ := Prod.mk.inj (Option.some.inj hf)
        exact c_iret C hr hQ dX1_law_71
def f_X1_law (n : Nat) (g : CG) (x0 : Nat) (x1 : Int32) (x2 : Int32) (x3 : Int32) (d : CD) : Option (Int32 × CD) := if ht g x0 = 1 then (hr g x0 6).bind fun p2 => if ht g p2 = 3 then if (f_X1_isIn x1 (0 : Int32) (((1 : Int32) <<< ((hi d p2 20) &&& 31)) - (1 : Int32))) = 0 then (some ((-1 : Int32), d)) else (if (f_X1_isIn x2 (1 : Int32) (60 : Int32)) = 0 then (some ((-1 : Int32), d)) else ((hr g x0 7).bind fun p6 => if ht g p6 = 4 then (f_X4_gone n g d p6 p2).bind fun r8 => if (x1 &&& r8) = 0 then (f_X1_law_L50 n g n x0 x1 x2 x3 (1 : Int32) d) else (some ((-1 : Int32), d)) else none)) else none else none
set_option maxHeartbeats 4000000 in
theorem w_X1_law_E {K : KT} {T : CT} {r : Int32} {τ : CD} (n : Nat) (g : CG) (C : Kok K cX1_law 5 RX1) (B : CB K T) (hr : (kMe K).sig.returnType = (some .int)) (dK : kR K = rmC 6 0 0) (hQ : KQc K T (some (.int r)) 0 0 g τ) (x0 : Nat) (x1 : Int32) (x2 : Int32) (x3 : Int32) (d : CD) (hf : f_X1_law n g x0 x1 x2 x3 d = some (r, τ)) : XJ K 5 (Wc K T 0 0 g d) 0 [(0, .ref x0), (1, .int x1), (2, .int x2), (3, .int x3)] [] := by
  unfold f_X1_law at hf
  refine x_iload_n C dX1_law_0 1 rfl ?_
  refine x_iconst (0 : Int32) C dX1_law_1 (by decide) ?_
  refine x_iconst (1 : Int32) C dX1_law_2 (by decide) ?_
  refine x_aload_n C dX1_law_3 0 rfl ?_
  obtain ⟨t1, hf⟩ := pf_ch hf
  obtain ⟨p2, ep2, hf⟩ := pf_b hf
  refine cg1_6 C B t1 (flo C q621) fsm ep2 dX1_law_4 ?_
  obtain ⟨t3, hf⟩ := pf_ch hf
  refine cg3_20 C B t3 (fln B q337) fsm dX1_law_7 ?_
  refine x_ishl C dX1_law_10 ?_
  refine x_iconst (1 : Int32) C dX1_law_11 (by decide) ?_
  refine x_isub C dX1_law_12 ?_
  refine k_X1_isIn_X1 C B dK (Nat.le_of_ble_eq_true rfl) cz rfl (Nat.le_of_ble_eq_true rfl) dX1_law_13 ?_
  refine x_if_eq (tgt := 45) C dX1_law_16 (by decide) (fun c4 => ?_) (fun c4 => ?_)
  · have hf := pf_t c4 hf
    refine x_iconst (-1 : Int32) C dX1_law_45 (by decide) ?_
    obtain ⟨rfl, rfl⟩ := Prod.mk.inj (Option.some.inj hf)
    exact c_iret C hr hQ dX1_law_46
  · have hf := pf_f c4 hf
    refine x_iload_n C dX1_law_19 2 rfl ?_
    refine x_iconst (1 : Int32) C dX1_law_20 (by decide) ?_
    refine x_bipush (60 : Int32) C dX1_law_21 (by decide) ?_
    refine k_X1_isIn_X1 C B dK (Nat.le_of_ble_eq_true rfl) cz rfl (Nat.le_of_ble_eq_true rfl) dX1_law_23 ?_
    refine x_if_eq (tgt := 45) C dX1_law_26 (by decide) (fun c5 => ?_) (fun c5 => ?_)
    · have hf := pf_t c5 hf
      refine x_iconst (-1 : Int32) C dX1_law_45 (by decide) ?_
      obtain ⟨rfl, rfl⟩ := Prod.mk.inj (Option.some.inj hf)
      exact c_iret C hr hQ dX1_law_46
    · have hf := pf_f c5 hf
      refine x_iload_n C dX1_law_29 1 rfl ?_
      refine x_aload_n C dX1_law_30 0 rfl ?_
      obtain ⟨p6, ep6, hf⟩ := pf_b hf
      refine cg1_7 C B t1 (flo C q624) fsm ep6 dX1_law_31 ?_
      refine x_aload_n C dX1_law_34 0 rfl ?_
      refine cg1_6 C B t1 (flo C q621) fsm ep2 dX1_law_35 ?_
      obtain ⟨t7, hf⟩ := pf_ch hf
      obtain ⟨r8, er8, hf⟩ := pf_b hf
      refine k_X4_gone_X1 C B t7 dK (Nat.le_of_ble_eq_true rfl) cz er8 (Nat.le_of_ble_eq_true rfl) dX1_law_38 ?_
      refine x_iand C dX1_law_41 ?_
      refine x_if_eq (tgt := 47) C dX1_law_42 (by decide) (fun c9 => ?_) (fun c9 => ?_)
      · have hf := pf_t c9 hf
        refine x_iconst (1 : Int32) C dX1_law_47 (by decide) ?_
        refine x_istore (L' := [(0, .ref x0), (1, .int x1), (2, .int x2), (3, .int x3), (4, .int (1 : Int32))]) C dX1_law_48 (Nat.le_of_ble_eq_true rfl) [1, 2, 3, 4, 0] rfl ?_
        exact w_X1_law_50 n g C B hr dK hQ n x0 x1 x2 x3 (1 : Int32) _ hf
      · have hf := pf_f c9 hf
        refine x_iconst (-1 : Int32) C dX1_law_45 (by decide) ?_
        obtain ⟨rfl, rfl⟩ := Prod.mk.inj (Option.some.inj hf)
        exact c_iret C hr hQ dX1_law_46
theorem met_X1_law {T : CT} {v : (Int32 × CD)} {n : Nat} {g : CG} {d : CD} {x0 : Nat} {x1 : Int32} {x2 : Int32} {x3 : Int32} {l : Launch} (hf : f_X1_law n g x0 x1 x2 x3 d = some v) : Met l yX1_law (ws_ yX1_law cX1_law 5 (some .int)) (rmC 6 0 0) (va_Pc [.ref x0, .int x1, .int x2, .int x3] (CU T g d)) (Qc T (some (.int v.1)) g v.2) 0 0 (cA T) :=
  c_met [.ref x0, .int x1, .int x2, .int x3] RX1 (by decide) rfl (Nat.le_of_ble_eq_true rfl) (fun K hl hR hr C B hQ => w_X1_law_E _ _ C B hr hR hQ _ _ _ _ _ hf)
theorem k_X1_isWalker_X1 {K : KT} {T : CT} {c0 s0 c1 s1 dk : Nat} {cc : ByteArray} {nL pc : Nat} {L : List (Nat × Value)} {rest : List Value} {g : CG} {d : CD} {v : Int32} {x0 : Nat} {x1 : Int32} (C : Kok K cc nL RX1) (B : CB K T) (hta : ht g x0 = 1) (dK : kR K = rmC dk c1 s1) (hd : 3 + 1 ≤ dk) (hcs : c0 + 0 ≤ c1 ∧ s0 + 0 ≤ s1) (hf : f_X1_isWalker g d x0 x1 = some v) (hW : (rest.map fun v => v.category).sum ≤ 8) (dd : decode cc pc = .ok (.invokevirtual 274, 3)) (kk2 : XJ K nL (Wc K T c0 s0 g d) (pc + 3) L ((.int v) :: rest)) : XJ K nL (Wc K T c0 s0 g d) pc L (.int x1 :: .ref x0 :: rest) :=
  c_callV (rest := rest) (v := (some (.int v))) [.int x1] 1 rfl C B hta (by decide) (by decide) rfl dK hd (Nat.le_of_ble_eq_true rfl) hcs (lw_V q990 q992 qs10 q121 q993) (by decide +kernel) (met_X1_isWalker hf) rfl hW dd kk2
theorem k_X1_isKind_X1 {K : KT} {T : CT} {c0 s0 c1 s1 dk : Nat} {cc : ByteArray} {nL pc : Nat} {L : List (Nat × Value)} {rest : List Value} {g : CG} {d : CD} {v : Int32} {x0 : Nat} {x1 : Int32} (C : Kok K cc nL RX1) (B : CB K T) (hta : ht g x0 = 1) (dK : kR K = rmC dk c1 s1) (hd : 3 + 1 ≤ dk) (hcs : c0 + 0 ≤ c1 ∧ s0 + 0 ≤ s1) (hf : f_X1_isKind g d x0 x1 = some v) (hW : (rest.map fun v => v.category).sum ≤ 8) (dd : decode cc pc = .ok (.invokevirtual 298, 3)) (kk2 : XJ K nL (Wc K T c0 s0 g d) (pc + 3) L ((.int v) :: rest)) : XJ K nL (Wc K T c0 s0 g d) pc L (.int x1 :: .ref x0 :: rest) :=
  c_callV (rest := rest) (v := (some (.int v))) [.int x1] 1 rfl C B hta (by decide) (by decide) rfl dK hd (Nat.le_of_ble_eq_true rfl) hcs (lw_V q998 q1000 qs11 q121 q1001) (by decide +kernel) (met_X1_isKind hf) rfl hW dd kk2
theorem k_X3_likes_X1 {K : KT} {T : CT} {c0 s0 c1 s1 dk : Nat} {cc : ByteArray} {nL pc : Nat} {L : List (Nat × Value)} {rest : List Value} {g : CG} {d : CD} {v : Int32} {x0 : Nat} {x1 : Int32} {x2 : Int32} (C : Kok K cc nL RX1) (B : CB K T) (hta : ht g x0 = 3) (dK : kR K = rmC dk c1 s1) (hd : 2 + 1 ≤ dk) (hcs : c0 + 0 ≤ c1 ∧ s0 + 0 ≤ s1) (hf : f_X3_likes g d x0 x1 x2 = some v) (hW : (rest.map fun v => v.category).sum ≤ 8) (dd : decode cc pc = .ok (.invokevirtual 301, 3)) (kk2 : XJ K nL (Wc K T c0 s0 g d) (pc + 3) L ((.int v) :: rest)) : XJ K nL (Wc K T c0 s0 g d) pc L (.int x2 :: .int x1 :: .ref x0 :: rest) :=
  c_callV (rest := rest) (v := (some (.int v))) [.int x1, .int x2] 2 rfl C B hta (by decide) (by decide) rfl dK hd (Nat.le_of_ble_eq_true rfl) hcs (lw_V q1002 q1003 q1004 q125 q1005) (by decide +kernel) (met_X3_likes hf) rfl hW dd kk2
theorem k_X4_chance_X1 {K : KT} {T : CT} {c0 s0 c1 s1 dk : Nat} {cc : ByteArray} {nL pc : Nat} {L : List (Nat × Value)} {rest : List Value} {g : CG} {d : CD} {v : Int32} {x0 : Nat} {x1 : Nat} {x2 : Int32} {x3 : Int32} (C : Kok K cc nL RX1) (B : CB K T) (hta : ht g x0 = 4) (dK : kR K = rmC dk c1 s1) (hd : 3 + 1 ≤ dk) (hcs : c0 + 0 ≤ c1 ∧ s0 + 0 ≤ s1) (hf : f_X4_chance g d x0 x1 x2 x3 = some v) (hW : (rest.map fun v => v.category).sum ≤ 8) (dd : decode cc pc = .ok (.invokevirtual 304, 3)) (kk2 : XJ K nL (Wc K T c0 s0 g d) (pc + 3) L ((.int v) :: rest)) : XJ K nL (Wc K T c0 s0 g d) pc L (.int x3 :: .int x2 :: .ref x1 :: .ref x0 :: rest) :=
  c_callV (rest := rest) (v := (some (.int v))) [.ref x1, .int x2, .int x3] 3 rfl C B hta (by decide) (by decide) rfl dK hd (Nat.le_of_ble_eq_true rfl) hcs (lw_V q1006 q1007 q1008 q126 q1009) (by decide +kernel) (met_X4_chance hf) rfl hW dd kk2
def f_X1_likes (g : CG) (d : CD) (x0 : Nat) (x1 : Int32) (x2 : Int32) (x3 : Int32) : Option Int32 := if ht g x0 = 1 then (f_X1_isWalker g d x0 x1).bind fun r2 => if r2 = 0 then (some (-1 : Int32)) else ((f_X1_isKind g d x0 x2).bind fun r4 => if r4 = 0 then (some (-1 : Int32)) else (if x3 = (0 : Int32) then ((hr g x0 6).bind fun p9 => if ht g p9 = 3 then (f_X3_likes g d p9 x1 x2).bind fun r11 => some r11 else none) else (if x3 = (1 : Int32) then ((hr g x0 7).bind fun p12 => if ht g p12 = 4 then (hr g p12 1).bind fun p14 => if ht g p14 = 100 then if inb (((5 : Int32) * x1) + x2) (hn g p14) = true then some (hi d p14 (Int32.toNatClampNeg (((5 : Int32) * x1) + x2))) else none else none else none) else (if x3 = (2 : Int32) then ((hr g x0 7).bind fun p17 => (hr g x0 6).bind fun p18 => if ht g p17 = 4 then (f_X4_chance g d p17 p18 x1 x2).bind fun r20 => some r20 else none) else (some (-1 : Int32)))))) else none
set_option maxHeartbeats 4000000 in
theorem w_X1_likes_E {K : KT} {T : CT} {r : Int32} (g : CG) (d : CD) (C : Kok K cX1_likes 4 RX1) (B : CB K T) (hr : (kMe K).sig.returnType = (some .int)) (dK : kR K = rmC 4 0 0) (hQ : KQc K T (some (.int r)) 0 0 g d) (x0 : Nat) (x1 : Int32) (x2 : Int32) (x3 : Int32) (hf : f_X1_likes g d x0 x1 x2 x3 = some r) : XJ K 4 (Wc K T 0 0 g d) 0 [(0, .ref x0), (1, .int x1), (2, .int x2), (3, .int x3)] [] := by
  unfold f_X1_likes at hf
  refine x_aload_n C dX1_likes_0 0 rfl ?_
  refine x_iload_n C dX1_likes_1 1 rfl ?_
  obtain ⟨t1, hf⟩ := pf_ch hf
  obtain ⟨r2, er2, hf⟩ := pf_b hf
  refine k_X1_isWalker_X1 C B t1 dK (Nat.le_of_ble_eq_true rfl) cz er2 (Nat.le_of_ble_eq_true rfl) dX1_likes_2 ?_
  refine x_if_eq (tgt := 16) C dX1_likes_5 (by decide) (fun c3 => ?_) (fun c3 => ?_)
  · have hf := pf_t c3 hf
    refine x_iconst (-1 : Int32) C dX1_likes_16 (by decide) ?_
    obtain rfl := Option.some.inj hf
    exact c_iret C hr hQ dX1_likes_17
  · have hf := pf_f c3 hf
    refine x_aload_n C dX1_likes_8 0 rfl ?_
    refine x_iload_n C dX1_likes_9 2 rfl ?_
    obtain ⟨r4, er4, hf⟩ := pf_b hf
    refine k_X1_isKind_X1 C B t1 dK (Nat.le_of_ble_eq_true rfl) cz er4 (Nat.le_of_ble_eq_true rfl) dX1_likes_10 ?_
    refine x_if_ne (tgt := 18) C dX1_likes_13 (by decide) (fun c5 => ?_) (fun c5 => ?_)
    · have hf := pf_f c5 hf
      refine x_iload_n C dX1_likes_18 3 rfl ?_
      by_cases c6 : x3 = (0 : Int32)
      · have hf := pf_t c6 hf
        refine x_tableIn (off := 25) (tgt := 44) C dX1_likes_19 (by rw [c6]; decide) (by rw [c6]; decide) (by rw [c6]; decide) (by decide) ?_
        refine x_aload_n C dX1_likes_44 0 rfl ?_
        obtain ⟨p9, ep9, hf⟩ := pf_b hf
        refine cg1_6 C B t1 (flo C q621) fsm ep9 dX1_likes_45 ?_
        refine x_iload_n C dX1_likes_48 1 rfl ?_
        refine x_iload_n C dX1_likes_49 2 rfl ?_
        obtain ⟨t10, hf⟩ := pf_ch hf
        obtain ⟨r11, er11, hf⟩ := pf_b hf
        refine k_X3_likes_X1 C B t10 dK (Nat.le_of_ble_eq_true rfl) cz er11 (Nat.le_of_ble_eq_true rfl) dX1_likes_50 ?_
        obtain rfl := Option.some.inj hf
        exact c_iret C hr hQ dX1_likes_53
      · have hf := pf_f c6 hf
        by_cases c7 : x3 = (1 : Int32)
        · have hf := pf_t c7 hf
          refine x_tableIn (off := 35) (tgt := 54) C dX1_likes_19 (by rw [c7]; decide) (by rw [c7]; decide) (by rw [c7]; decide) (by decide) ?_
          refine x_aload_n C dX1_likes_54 0 rfl ?_
          obtain ⟨p12, ep12, hf⟩ := pf_b hf
          refine cg1_7 C B t1 (flo C q624) fsm ep12 dX1_likes_55 ?_
          obtain ⟨t13, hf⟩ := pf_ch hf
          obtain ⟨p14, ep14, hf⟩ := pf_b hf
          refine cg4_1 C B t13 (fln B q453) fsm ep14 dX1_likes_58 ?_
          refine x_iconst (5 : Int32) C dX1_likes_61 (by decide) ?_
          refine x_iload_n C dX1_likes_62 1 rfl ?_
          refine x_imul C dX1_likes_63 ?_
          refine x_iload_n C dX1_likes_64 2 rfl ?_
          refine x_iadd C dX1_likes_65 ?_
          obtain ⟨t15, hf⟩ := pf_ch hf
          obtain ⟨h16, hf⟩ := pf_in hf
          refine ca_ild C B t15 h16 dX1_likes_66 ?_
          obtain rfl := Option.some.inj hf
          exact c_iret C hr hQ dX1_likes_67
        · have hf := pf_f c7 hf
          by_cases c8 : x3 = (2 : Int32)
          · have hf := pf_t c8 hf
            refine x_tableIn (off := 49) (tgt := 68) C dX1_likes_19 (by rw [c8]; decide) (by rw [c8]; decide) (by rw [c8]; decide) (by decide) ?_
            refine x_aload_n C dX1_likes_68 0 rfl ?_
            obtain ⟨p17, ep17, hf⟩ := pf_b hf
            refine cg1_7 C B t1 (flo C q624) fsm ep17 dX1_likes_69 ?_
            refine x_aload_n C dX1_likes_72 0 rfl ?_
            obtain ⟨p18, ep18, hf⟩ := pf_b hf
            refine cg1_6 C B t1 (flo C q621) fsm ep18 dX1_likes_73 ?_
            refine x_iload_n C dX1_likes_76 1 rfl ?_
            refine x_iload_n C dX1_likes_77 2 rfl ?_
            obtain ⟨t19, hf⟩ := pf_ch hf
            obtain ⟨r20, er20, hf⟩ := pf_b hf
            refine k_X4_chance_X1 C B t19 dK (Nat.le_of_ble_eq_true rfl) cz er20 (Nat.le_of_ble_eq_true rfl) dX1_likes_78 ?_
            obtain rfl := Option.some.inj hf
            exact c_iret C hr hQ dX1_likes_81
          · have hf := pf_f c8 hf
            refine x_tableOut (tgt := 82) C dX1_likes_19 (by have := lv_neT c6 (show (0 : Int32).toInt = (0 : Int) by decide); have := lv_neT c7 (show (1 : Int32).toInt = (1 : Int) by decide); have := lv_neT c8 (show (2 : Int32).toInt = (2 : Int) by decide); omega) (by decide) ?_
            refine x_iconst (-1 : Int32) C dX1_likes_82 (by decide) ?_
            obtain rfl := Option.some.inj hf
            exact c_iret C hr hQ dX1_likes_83
    · have hf := pf_t c5 hf
      refine x_iconst (-1 : Int32) C dX1_likes_16 (by decide) ?_
      obtain rfl := Option.some.inj hf
      exact c_iret C hr hQ dX1_likes_17
theorem met_X1_likes {T : CT} {v : Int32} {g : CG} {d : CD} {x0 : Nat} {x1 : Int32} {x2 : Int32} {x3 : Int32} {l : Launch} (hf : f_X1_likes g d x0 x1 x2 x3 = some v) : Met l yX1_likes (ws_ yX1_likes cX1_likes 4 (some .int)) (rmC 4 0 0) (va_Pc [.ref x0, .int x1, .int x2, .int x3] (CU T g d)) (Qc T (some (.int v)) g d) 0 0 (cA T) :=
  c_met [.ref x0, .int x1, .int x2, .int x3] RX1 (by decide) rfl (Nat.le_of_ble_eq_true rfl) (fun K hl hR hr C B hQ => w_X1_likes_E _ _ C B hr hR hQ _ _ _ _ hf)
def f_X1_logged (g : CG) (d : CD) (x0 : Nat) (x1 : Int32) : Option Int32 := if ht g x0 = 1 then if (hi d x0 37) = 0 then (some (-1 : Int32)) else (if (f_X1_isIn x1 (0 : Int32) (3 : Int32)) = 0 then (some (-1 : Int32)) else ((hr g x0 36).bind fun p4 => if ht g p4 = 100 then if inb x1 (hn g p4) = true then some (hi d p4 (Int32.toNatClampNeg x1)) else none else none)) else none
set_option maxHeartbeats 4000000 in
theorem w_X1_logged_E {K : KT} {T : CT} {r : Int32} (g : CG) (d : CD) (C : Kok K cX1_logged 2 RX1) (B : CB K T) (hr : (kMe K).sig.returnType = (some .int)) (dK : kR K = rmC 3 0 0) (hQ : KQc K T (some (.int r)) 0 0 g d) (x0 : Nat) (x1 : Int32) (hf : f_X1_logged g d x0 x1 = some r) : XJ K 2 (Wc K T 0 0 g d) 0 [(0, .ref x0), (1, .int x1)] [] := by
  unfold f_X1_logged at hf
  refine x_aload_n C dX1_logged_0 0 rfl ?_
  obtain ⟨t1, hf⟩ := pf_ch hf
  refine cg1_37 C B t1 (flo C q656) fsm dX1_logged_1 ?_
  refine x_if_eq (tgt := 25) C dX1_logged_4 (by decide) (fun c2 => ?_) (fun c2 => ?_)
  · have hf := pf_t c2 hf
    refine x_iconst (-1 : Int32) C dX1_logged_25 (by decide) ?_
    obtain rfl := Option.some.inj hf
    exact c_iret C hr hQ dX1_logged_26
  · have hf := pf_f c2 hf
    refine x_iload_n C dX1_logged_7 1 rfl ?_
    refine x_iconst (0 : Int32) C dX1_logged_8 (by decide) ?_
    refine x_iconst (3 : Int32) C dX1_logged_9 (by decide) ?_
    refine k_X1_isIn_X1 C B dK (Nat.le_of_ble_eq_true rfl) cz rfl (Nat.le_of_ble_eq_true rfl) dX1_logged_10 ?_
    refine x_if_eq (tgt := 25) C dX1_logged_13 (by decide) (fun c3 => ?_) (fun c3 => ?_)
    · have hf := pf_t c3 hf
      refine x_iconst (-1 : Int32) C dX1_logged_25 (by decide) ?_
      obtain rfl := Option.some.inj hf
      exact c_iret C hr hQ dX1_logged_26
    · have hf := pf_f c3 hf
      refine x_aload_n C dX1_logged_16 0 rfl ?_
      obtain ⟨p4, ep4, hf⟩ := pf_b hf
      refine cg1_36 C B t1 (flo C q655) fsm ep4 dX1_logged_17 ?_
      refine x_iload_n C dX1_logged_20 1 rfl ?_
      obtain ⟨t5, hf⟩ := pf_ch hf
      obtain ⟨h6, hf⟩ := pf_in hf
      refine ca_ild C B t5 h6 dX1_logged_21 ?_
      refine x_goto (tgt := 26) C dX1_logged_22 (by decide) ?_
      obtain rfl := Option.some.inj hf
      exact c_iret C hr hQ dX1_logged_26
theorem met_X1_logged {T : CT} {v : Int32} {g : CG} {d : CD} {x0 : Nat} {x1 : Int32} {l : Launch} (hf : f_X1_logged g d x0 x1 = some v) : Met l yX1_logged (ws_ yX1_logged cX1_logged 2 (some .int)) (rmC 3 0 0) (va_Pc [.ref x0, .int x1] (CU T g d)) (Qc T (some (.int v)) g d) 0 0 (cA T) :=
  c_met [.ref x0, .int x1] RX1 (by decide) rfl (Nat.le_of_ble_eq_true rfl) (fun K hl hR hr C B hQ => w_X1_logged_E _ _ C B hr hR hQ _ _ hf)
def f_X1_now_L13 (n : Nat) (g : CG) (d : CD) : Nat → Nat → Int32 → Int32 → Int32 → Int32 → Int32 → Int32 → Option Int32
  | 0, _, _, _, _, _, _, _ => none
  | m + 1, x0, x1, x2, x3, x4, x5, x6 => if ht g x0 = 1 then (hr g x0 6).bind fun p2 => if ht g p2 = 3 then if (hi d p2 20) ≤ x6 then (if x1 = (0 : Int32) then ((hr g x0 7).bind fun p12 => if ht g p12 = 4 then some (hi d p12 4) else none) else (if x1 = (1 : Int32) then ((hr g x0 7).bind fun p14 => if ht g p14 = 4 then (f_X4_gone n g d p14 p2).bind fun r16 => some r16 else none) else (if x1 = (2 : Int32) then (some x2) else (if x1 = (3 : Int32) then (some x3) else (if x1 = (4 : Int32) then ((hr g x0 7).bind fun p17 => if ht g p17 = 4 then some (hi d p17 5) else none) else (if x1 = (5 : Int32) then (some x4) else (if x1 = (6 : Int32) then (some x5) else (some (-1 : Int32))))))))) else ((hr g x0 7).bind fun p19 => if ht g p19 = 4 then (hr g p19 0).bind fun p21 => if ht g p21 = 105 then if inb x6 (hn g p21) = true then (hr g p21 (Int32.toNatClampNeg x6)).bind fun p24 => if ht g p24 = 5 then ev (x2 + (hi d p24 2)) fun v26 => ev (x3 + (hi d p24 3)) fun v27 => ev (x4 + (hi d p24 4)) fun v28 => if (hi d p24 5) = 0 then (f_X1_now_L13 n g d m x0 x1 v26 v27 v28 x5 (x6 + (1 : Int32))) else (ev (x5 ||| ((1 : Int32) <<< (x6 &&& 31))) fun v30 => f_X1_now_L13 n g d m x0 x1 v26 v27 v28 v30 (x6 + (1 : Int32))) else none else none else none else none) else none else none
set_option maxHeartbeats 4000000 in
theorem w_X1_now_13 {K : KT} {T : CT} {r : Int32} (n : Nat) (g : CG) (d : CD) (C : Kok K cX1_now 8 RX1) (B : CB K T) (hr : (kMe K).sig.returnType = (some .int)) (dK : kR K = rmC 4 0 0) (hQ : KQc K T (some (.int r)) 0 0 g d) : ∀ (m : Nat) (x0 : Nat) (x1 : Int32) (x2 : Int32) (x3 : Int32) (x4 : Int32) (x5 : Int32) (x6 : Int32) (hf : f_X1_now_L13 n g d m x0 x1 x2 x3 x4 x5 x6 = some r), XJ K 8 (Wc K T 0 0 g d) 13 [(0, .ref x0), (1, .int x1), (2, .int x2), (3, .int x3), (4, .int x4), (5, .int x5), (6, .int x6)] [] := by
  intro m
  induction m with
  | zero => intro x0 x1 x2 x3 x4 x5 x6 hf; cases hf
  | succ m ih =>
    intro x0 x1 x2 x3 x4 x5 x6 hf
    rw [f_X1_now_L13] at hf
    refine x_iload C dX1_now_13 6 rfl ?_
    refine x_aload_n C dX1_now_15 0 rfl ?_
    obtain ⟨t1, hf⟩ := pf_ch hf
    obtain ⟨p2, ep2, hf⟩ := pf_b hf
    refine cg1_6 C B t1 (flo C q621) fsm ep2 dX1_now_16 ?_
    obtain ⟨t3, hf⟩ := pf_ch hf
    refine cg3_20 C B t3 (fln B q337) fsm dX1_now_19 ?_
    refine x_icmp_ge (tgt := 86) C dX1_now_22 (by decide) (fun c4 => ?_) (fun c4 => ?_)
    · have hf := pf_t c4 hf
      refine x_iload_n C dX1_now_86 1 rfl ?_
      by_cases c5 : x1 = (0 : Int32)
      · have hf := pf_t c5 hf
        refine x_tableIn (off := 41) (tgt := 128) C dX1_now_87 (by rw [c5]; decide) (by rw [c5]; decide) (by rw [c5]; decide) (by decide) ?_
        refine x_aload_n C dX1_now_128 0 rfl ?_
        obtain ⟨p12, ep12, hf⟩ := pf_b hf
        refine cg1_7 C B t1 (flo C q624) fsm ep12 dX1_now_129 ?_
        obtain ⟨t13, hf⟩ := pf_ch hf
        refine cg4_4 C B t13 (fln B q459) fsm dX1_now_132 ?_
        obtain rfl := Option.some.inj hf
        exact c_iret C hr hQ dX1_now_135
      · have hf := pf_f c5 hf
        by_cases c6 : x1 = (1 : Int32)
        · have hf := pf_t c6 hf
          refine x_tableIn (off := 49) (tgt := 136) C dX1_now_87 (by rw [c6]; decide) (by rw [c6]; decide) (by rw [c6]; decide) (by decide) ?_
          refine x_aload_n C dX1_now_136 0 rfl ?_
          obtain ⟨p14, ep14, hf⟩ := pf_b hf
          refine cg1_7 C B t1 (flo C q624) fsm ep14 dX1_now_137 ?_
          refine x_aload_n C dX1_now_140 0 rfl ?_
          refine cg1_6 C B t1 (flo C q621) fsm ep2 dX1_now_141 ?_
          obtain ⟨t15, hf⟩ := pf_ch hf
          obtain ⟨r16, er16, hf⟩ := pf_b hf
          refine k_X4_gone_X1 C B t15 dK (Nat.le_of_ble_eq_true rfl) cz er16 (Nat.le_of_ble_eq_true rfl) dX1_now_144 ?_
          obtain rfl := Option.some.inj hf
          exact c_iret C hr hQ dX1_now_147
        · have hf := pf_f c6 hf
          by_cases c7 : x1 = (2 : Int32)
          · have hf := pf_t c7 hf
            refine x_tableIn (off := 61) (tgt := 148) C dX1_now_87 (by rw [c7]; decide) (by rw [c7]; decide) (by rw [c7]; decide) (by decide) ?_
            refine x_iload_n C dX1_now_148 2 rfl ?_
            obtain rfl := Option.some.inj hf
            exact c_iret C hr hQ dX1_now_149
          · have hf := pf_f c7 hf
            by_cases c8 : x1 = (3 : Int32)
            · have hf := pf_t c8 hf
              refine x_tableIn (off := 63) (tgt := 150) C dX1_now_87 (by rw [c8]; decide) (by rw [c8]; decide) (by rw [c8]; decide) (by decide) ?_
              refine x_iload_n C dX1_now_150 3 rfl ?_
              obtain rfl := Option.some.inj hf
              exact c_iret C hr hQ dX1_now_151
            · have hf := pf_f c8 hf
              by_cases c9 : x1 = (4 : Int32)
              · have hf := pf_t c9 hf
                refine x_tableIn (off := 65) (tgt := 152) C dX1_now_87 (by rw [c9]; decide) (by rw [c9]; decide) (by rw [c9]; decide) (by decide) ?_
                refine x_aload_n C dX1_now_152 0 rfl ?_
                obtain ⟨p17, ep17, hf⟩ := pf_b hf
                refine cg1_7 C B t1 (flo C q624) fsm ep17 dX1_now_153 ?_
                obtain ⟨t18, hf⟩ := pf_ch hf
                refine cg4_5 C B t18 (fln B q461) fsm dX1_now_156 ?_
                obtain rfl := Option.some.inj hf
                exact c_iret C hr hQ dX1_now_159
              · have hf := pf_f c9 hf
                by_cases c10 : x1 = (5 : Int32)
                · have hf := pf_t c10 hf
                  refine x_tableIn (off := 73) (tgt := 160) C dX1_now_87 (by rw [c10]; decide) (by rw [c10]; decide) (by rw [c10]; decide) (by decide) ?_
                  refine x_iload C dX1_now_160 4 rfl ?_
                  obtain rfl := Option.some.inj hf
                  exact c_iret C hr hQ dX1_now_162
                · have hf := pf_f c10 hf
                  by_cases c11 : x1 = (6 : Int32)
                  · have hf := pf_t c11 hf
                    refine x_tableIn (off := 76) (tgt := 163) C dX1_now_87 (by rw [c11]; decide) (by rw [c11]; decide) (by rw [c11]; decide) (by decide) ?_
                    refine x_iload C dX1_now_163 5 rfl ?_
                    obtain rfl := Option.some.inj hf
                    exact c_iret C hr hQ dX1_now_165
                  · have hf := pf_f c11 hf
                    refine x_tableOut (tgt := 166) C dX1_now_87 (by have := lv_neT c5 (show (0 : Int32).toInt = (0 : Int) by decide); have := lv_neT c6 (show (1 : Int32).toInt = (1 : Int) by decide); have := lv_neT c7 (show (2 : Int32).toInt = (2 : Int) by decide); have := lv_neT c8 (show (3 : Int32).toInt = (3 : Int) by decide); have := lv_neT c9 (show (4 : Int32).toInt = (4 : Int) by decide); have := lv_neT c10 (show (5 : Int32).toInt = (5 : Int) by decide); have := lv_neT c11 (show (6 : Int32).toInt = (6 : Int) by decide); omega) (by decide) ?_
                    refine x_iconst (-1 : Int32) C dX1_now_166 (by decide) ?_
                    obtain rfl := Option.some.inj hf
                    exact c_iret C hr hQ dX1_now_167
    · have hf := pf_f c4 hf
      refine x_aload_n C dX1_now_25 0 rfl ?_
      obtain ⟨p19, ep19, hf⟩ := pf_b hf
      refine cg1_7 C B t1 (flo C q624) fsm ep19 dX1_now_26 ?_
      obtain ⟨t20, hf⟩ := pf_ch hf
      obtain ⟨p21, ep21, hf⟩ := pf_b hf
      refine cg4_0 C B t20 (fln B q451) fsm ep21 dX1_now_29 ?_
      refine x_iload C dX1_now_32 6 rfl ?_
      obtain ⟨t22, hf⟩ := pf_ch hf
      obtain ⟨h23, hf⟩ := pf_in hf
      obtain ⟨p24, ep24, hf⟩ := pf_b hf
      refine ca_ald5 C B t22 h23 ep24 dX1_now_34 ?_
      refine x_astore (L' := [(0, .ref x0), (1, .int x1), (2, .int x2), (3, .int x3), (4, .int x4), (5, .int x5), (6, .int x6), (7, .ref p24)]) C dX1_now_35 (Nat.le_of_ble_eq_true rfl) [1, 2, 3, 4, 5, 6, 7, 0] rfl ?_
      refine x_iload_n C dX1_now_37 2 rfl ?_
      refine x_aload C dX1_now_38 7 rfl ?_
      obtain ⟨t25, hf⟩ := pf_ch hf
      refine cg5_2 C B t25 (fln B q421) fsm dX1_now_40 ?_
      refine x_iadd C dX1_now_43 ?_
      obtain ⟨v26, ev26, hf⟩ := pf_e hf
      refine x_topir ev26 ?_
      refine x_istore_n (L' := [(0, .ref x0), (1, .int x1), (2, .int v26), (3, .int x3), (4, .int x4), (5, .int x5), (6, .int x6), (7, .ref p24)]) C dX1_now_44 (Nat.le_of_ble_eq_true rfl) [1, 2, 0, 3, 4, 5, 6, 7] rfl ?_
      refine x_iload_n C dX1_now_45 3 rfl ?_
      refine x_aload C dX1_now_46 7 rfl ?_
      refine cg5_3 C B t25 (fln B q425) fsm dX1_now_48 ?_
      refine x_iadd C dX1_now_51 ?_
      obtain ⟨v27, ev27, hf⟩ := pf_e hf
      refine x_topir ev27 ?_
      refine x_istore_n (L' := [(0, .ref x0), (1, .int x1), (2, .int v26), (3, .int v27), (4, .int x4), (5, .int x5), (6, .int x6), (7, .ref p24)]) C dX1_now_52 (Nat.le_of_ble_eq_true rfl) [1, 2, 3, 0, 4, 5, 6, 7] rfl ?_
      refine x_iload C dX1_now_53 4 rfl ?_
      refine x_aload C dX1_now_55 7 rfl ?_
      refine cg5_4 C B t25 (fln B q429) fsm dX1_now_57 ?_
      refine x_iadd C dX1_now_60 ?_
      obtain ⟨v28, ev28, hf⟩ := pf_e hf
      refine x_topir ev28 ?_
      refine x_istore (L' := [(0, .ref x0), (1, .int x1), (2, .int v26), (3, .int v27), (4, .int v28), (5, .int x5), (6, .int x6), (7, .ref p24)]) C dX1_now_61 (Nat.le_of_ble_eq_true rfl) [1, 2, 3, 4, 0, 5, 6, 7] rfl ?_
      refine x_aload C dX1_now_63 7 rfl ?_
      refine cg5_5 C B t25 (fln B q433) fsm dX1_now_65 ?_
      refine x_if_eq (tgt := 80) C dX1_now_68 (by decide) (fun c29 => ?_) (fun c29 => ?_)
      · have hf := pf_t c29 hf
        refine x_inc (c := (1 : Int32)) (L' := [(0, .ref x0), (1, .int x1), (2, .int v26), (3, .int v27), (4, .int v28), (5, .int x5), (6, .int (x6 + (1 : Int32)))]) C dX1_now_80 6 rfl (by decide) (Nat.le_of_ble_eq_true rfl) [1, 2, 3, 4, 5, 6, 0] rfl ?_
        refine x_goto (tgt := 13) C dX1_now_83 (by decide) ?_
        exact ih x0 x1 v26 v27 v28 x5 (x6 + (1 : Int32)) hf
      · have hf := pf_f c29 hf
        refine x_iload C dX1_now_71 5 rfl ?_
        refine x_iconst (1 : Int32) C dX1_now_73 (by decide) ?_
        refine x_iload C dX1_now_74 6 rfl ?_
        refine x_ishl C dX1_now_76 ?_
        refine x_ior C dX1_now_77 ?_
        obtain ⟨v30, ev30, hf⟩ := pf_e hf
        refine x_topir ev30 ?_
        refine x_istore (L' := [(0, .ref x0), (1, .int x1), (2, .int v26), (3, .int v27), (4, .int v28), (5, .int v30), (6, .int x6)]) C dX1_now_78 (Nat.le_of_ble_eq_true rfl) [1, 2, 3, 4, 5, 0, 6] rfl ?_
        refine x_inc (c := (1 : Int32)) (L' := [(0, .ref x0), (1, .int x1), (2, .int v26), (3, .int v27), (4, .int v28), (5, .int v30), (6, .int (x6 + (1 : Int32)))]) C dX1_now_80 6 rfl (by decide) (Nat.le_of_ble_eq_true rfl) [1, 2, 3, 4, 5, 6, 0] rfl ?_
        refine x_goto (tgt := 13) C dX1_now_83 (by decide) ?_
        exact ih x0 x1 v26 v27 v28 v30 (x6 + (1 : Int32)) hf
def f_X1_now (n : Nat) (g : CG) (d : CD) (x0 : Nat) (x1 : Int32) : Option Int32 := f_X1_now_L13 n g d n x0 x1 (0 : Int32) (0 : Int32) (0 : Int32) (0 : Int32) (0 : Int32)
set_option maxHeartbeats 4000000 in
theorem w_X1_now_E {K : KT} {T : CT} {r : Int32} (n : Nat) (g : CG) (d : CD) (C : Kok K cX1_now 8 RX1) (B : CB K T) (hr : (kMe K).sig.returnType = (some .int)) (dK : kR K = rmC 4 0 0) (hQ : KQc K T (some (.int r)) 0 0 g d) (x0 : Nat) (x1 : Int32) (hf : f_X1_now n g d x0 x1 = some r) : XJ K 8 (Wc K T 0 0 g d) 0 [(0, .ref x0), (1, .int x1)] [] := by
  unfold f_X1_now at hf
  refine x_iconst (0 : Int32) C dX1_now_0 (by decide) ?_
  refine x_istore_n (L' := [(0, .ref x0), (1, .int x1), (2, .int (0 : Int32))]) C dX1_now_1 (Nat.le_of_ble_eq_true rfl) [1, 2, 0] rfl ?_
  refine x_iconst (0 : Int32) C dX1_now_2 (by decide) ?_
  refine x_istore_n (L' := [(0, .ref x0), (1, .int x1), (2, .int (0 : Int32)), (3, .int (0 : Int32))]) C dX1_now_3 (Nat.le_of_ble_eq_true rfl) [1, 2, 3, 0] rfl ?_
  refine x_iconst (0 : Int32) C dX1_now_4 (by decide) ?_
  refine x_istore (L' := [(0, .ref x0), (1, .int x1), (2, .int (0 : Int32)), (3, .int (0 : Int32)), (4, .int (0 : Int32))]) C dX1_now_5 (Nat.le_of_ble_eq_true rfl) [1, 2, 3, 4, 0] rfl ?_
  refine x_iconst (0 : Int32) C dX1_now_7 (by decide) ?_
  refine x_istore (L' := [(0, .ref x0), (1, .int x1), (2, .int (0 : Int32)), (3, .int (0 : Int32)), (4, .int (0 : Int32)), (5, .int (0 : Int32))]) C dX1_now_8 (Nat.le_of_ble_eq_true rfl) [1, 2, 3, 4, 5, 0] rfl ?_
  refine x_iconst (0 : Int32) C dX1_now_10 (by decide) ?_
  refine x_istore (L' := [(0, .ref x0), (1, .int x1), (2, .int (0 : Int32)), (3, .int (0 : Int32)), (4, .int (0 : Int32)), (5, .int (0 : Int32)), (6, .int (0 : Int32))]) C dX1_now_11 (Nat.le_of_ble_eq_true rfl) [1, 2, 3, 4, 5, 6, 0] rfl ?_
  exact w_X1_now_13 n g d C B hr dK hQ n x0 x1 (0 : Int32) (0 : Int32) (0 : Int32) (0 : Int32) (0 : Int32) hf
theorem met_X1_now {T : CT} {v : Int32} {n : Nat} {g : CG} {d : CD} {x0 : Nat} {x1 : Int32} {l : Launch} (hf : f_X1_now n g d x0 x1 = some v) : Met l yX1_now (ws_ yX1_now cX1_now 8 (some .int)) (rmC 4 0 0) (va_Pc [.ref x0, .int x1] (CU T g d)) (Qc T (some (.int v)) g d) 0 0 (cA T) :=
  c_met [.ref x0, .int x1] RX1 (by decide) rfl (Nat.le_of_ble_eq_true rfl) (fun K hl hR hr C B hQ => w_X1_now_E _ _ _ C B hr hR hQ _ _ hf)
theorem k_X4_days_X1 {K : KT} {T : CT} {c0 s0 c1 s1 dk : Nat} {cc : ByteArray} {nL pc : Nat} {L : List (Nat × Value)} {rest : List Value} {g : CG} {d : CD} {v : (Int32 × CD)} {n : Nat} {x0 : Nat} {x1 : Nat} {x2 : Int32} {x3 : Int32} (C : Kok K cc nL RX1) (B : CB K T) (hta : ht g x0 = 4) (dK : kR K = rmC dk c1 s1) (hd : 5 + 1 ≤ dk) (hcs : c0 + 0 ≤ c1 ∧ s0 + 0 ≤ s1) (hf : f_X4_days n g x0 x1 x2 x3 d = some v) (hW : (rest.map fun v => v.category).sum ≤ 8) (dd : decode cc pc = .ok (.invokevirtual 353, 3)) (kk2 : XJ K nL (Wc K T c0 s0 g v.2) (pc + 3) L ((.int v.1) :: rest)) : XJ K nL (Wc K T c0 s0 g d) pc L (.int x3 :: .int x2 :: .ref x1 :: .ref x0 :: rest) :=
  c_callV (rest := rest) (v := (some (.int v.1))) [.ref x1, .int x2, .int x3] 3 rfl C B hta (by decide) (by decide) rfl dK hd (Nat.le_of_ble_eq_true rfl) hcs (lw_V q1096 q1097 q1098 q126 q1099) (by decide +kernel) (met_X4_days hf) rfl hW dd kk2
def f_X1_odds_L26 (n : Nat) (g : CG) : Nat → Nat → Int32 → Int32 → Int32 → Int32 → Int32 → CD → Option (Int32 × CD)
  | 0, _, _, _, _, _, _, _ => none
  | m + 1, x0, x1, x2, x3, x4, x5, d => if x2 ≤ x5 then (some (x4, d)) else (if ht g x0 = 1 then (hr g x0 8).bind fun p3 => (hr g x0 7).bind fun p4 => if ht g p3 = 4 then (f_X4_be n g p3 p4 d).bind fun r6 => (hr g x0 6).bind fun p7 => (f_X4_days n g p3 p7 (20 : Int32) (x3 + x5) r6).bind fun r8 => (hr g p3 0).bind fun p9 => if ht g p9 = 105 then if inb x1 (hn g p9) = true then (hr g p9 (Int32.toNatClampNeg x1)).bind fun p12 => if ht g p12 = 5 then (f_X5_isGone g r8.2 p12).bind fun r14 => if r14 = 0 then (f_X1_odds_L26 n g m x0 x1 x2 x3 (x4 + (1 : Int32)) (x5 + (1 : Int32)) r8.2) else (f_X1_odds_L26 n g m x0 x1 x2 x3 x4 (x5 + (1 : Int32)) r8.2) else none else none else none else none else none)
set_option maxHeartbeats 4000000 in
theorem w_X1_odds_26 {K : KT} {T : CT} {r : Int32} {τ : CD} (n : Nat) (g : CG) (C : Kok K cX1_odds 6 RX1) (B : CB K T) (hr : (kMe K).sig.returnType = (some .int)) (dK : kR K = rmC 6 0 0) (hQ : KQc K T (some (.int r)) 0 0 g τ) : ∀ (m : Nat) (x0 : Nat) (x1 : Int32) (x2 : Int32) (x3 : Int32) (x4 : Int32) (x5 : Int32) (d : CD) (hf : f_X1_odds_L26 n g m x0 x1 x2 x3 x4 x5 d = some (r, τ)), XJ K 6 (Wc K T 0 0 g d) 26 [(0, .ref x0), (1, .int x1), (2, .int x2), (3, .int x3), (4, .int x4), (5, .int x5)] [] := by
  intro m
  induction m with
  | zero => intro x0 x1 x2 x3 x4 x5 d hf; cases hf
  | succ m ih =>
    intro x0 x1 x2 x3 x4 x5 d hf
    rw [f_X1_odds_L26] at hf
    refine x_iload C dX1_odds_26 5 rfl ?_
    refine x_iload_n C dX1_odds_28 2 rfl ?_
    refine x_icmp_ge (tgt := 85) C dX1_odds_29 (by decide) (fun c1 => ?_) (fun c1 => ?_)
    · have hf := pf_t c1 hf
      refine x_iload C dX1_odds_85 4 rfl ?_
      obtain ⟨rfl, rfl⟩ := Prod.mk.inj (Option.some.inj hf)
      exact c_iret C hr hQ dX1_odds_87
    · have hf := pf_f c1 hf
      refine x_aload_n C dX1_odds_32 0 rfl ?_
      obtain ⟨t2, hf⟩ := pf_ch hf
      obtain ⟨p3, ep3, hf⟩ := pf_b hf
      refine cg1_8 C B t2 (flo C q627) fsm ep3 dX1_odds_33 ?_
      refine x_aload_n C dX1_odds_36 0 rfl ?_
      obtain ⟨p4, ep4, hf⟩ := pf_b hf
      refine cg1_7 C B t2 (flo C q624) fsm ep4 dX1_odds_37 ?_
      obtain ⟨t5, hf⟩ := pf_ch hf
      obtain ⟨r6, er6, hf⟩ := pf_b hf
      refine k_X4_be_X1 C B t5 dK (Nat.le_of_ble_eq_true rfl) cz er6 (Nat.le_of_ble_eq_true rfl) dX1_odds_40 ?_
      refine x_aload_n C dX1_odds_43 0 rfl ?_
      refine cg1_8 C B t2 (flo C q627) fsm ep3 dX1_odds_44 ?_
      refine x_aload_n C dX1_odds_47 0 rfl ?_
      obtain ⟨p7, ep7, hf⟩ := pf_b hf
      refine cg1_6 C B t2 (flo C q621) fsm ep7 dX1_odds_48 ?_
      refine x_bipush (20 : Int32) C dX1_odds_51 (by decide) ?_
      refine x_iload_n C dX1_odds_53 3 rfl ?_
      refine x_iload C dX1_odds_54 5 rfl ?_
      refine x_iadd C dX1_odds_56 ?_
      obtain ⟨r8, er8, hf⟩ := pf_b hf
      refine k_X4_days_X1 C B t5 dK (Nat.le_of_ble_eq_true rfl) cz er8 (Nat.le_of_ble_eq_true rfl) dX1_odds_57 ?_
      refine x_pop C dX1_odds_60 rfl ?_
      refine x_aload_n C dX1_odds_61 0 rfl ?_
      refine cg1_8 C B t2 (flo C q627) fsm ep3 dX1_odds_62 ?_
      obtain ⟨p9, ep9, hf⟩ := pf_b hf
      refine cg4_0 C B t5 (fln B q451) fsm ep9 dX1_odds_65 ?_
      refine x_iload_n C dX1_odds_68 1 rfl ?_
      obtain ⟨t10, hf⟩ := pf_ch hf
      obtain ⟨h11, hf⟩ := pf_in hf
      obtain ⟨p12, ep12, hf⟩ := pf_b hf
      refine ca_ald5 C B t10 h11 ep12 dX1_odds_69 ?_
      obtain ⟨t13, hf⟩ := pf_ch hf
      obtain ⟨r14, er14, hf⟩ := pf_b hf
      refine k_X5_isGone_X1 C B t13 dK (Nat.le_of_ble_eq_true rfl) cz er14 (Nat.le_of_ble_eq_true rfl) dX1_odds_70 ?_
      refine x_if_ne (tgt := 79) C dX1_odds_73 (by decide) (fun c15 => ?_) (fun c15 => ?_)
      · have hf := pf_f c15 hf
        refine x_inc (c := (1 : Int32)) (L' := [(0, .ref x0), (1, .int x1), (2, .int x2), (3, .int x3), (4, .int x4), (5, .int (x5 + (1 : Int32)))]) C dX1_odds_79 5 rfl (by decide) (Nat.le_of_ble_eq_true rfl) [1, 2, 3, 4, 5, 0] rfl ?_
        refine x_goto (tgt := 26) C dX1_odds_82 (by decide) ?_
        exact ih x0 x1 x2 x3 x4 (x5 + (1 : Int32)) _ hf
      · have hf := pf_t c15 hf
        refine x_inc (c := (1 : Int32)) (L' := [(0, .ref x0), (1, .int x1), (2, .int x2), (3, .int x3), (4, .int (x4 + (1 : Int32))), (5, .int x5)]) C dX1_odds_76 4 rfl (by decide) (Nat.le_of_ble_eq_true rfl) [1, 2, 3, 4, 0, 5] rfl ?_
        refine x_inc (c := (1 : Int32)) (L' := [(0, .ref x0), (1, .int x1), (2, .int x2), (3, .int x3), (4, .int (x4 + (1 : Int32))), (5, .int (x5 + (1 : Int32)))]) C dX1_odds_79 5 rfl (by decide) (Nat.le_of_ble_eq_true rfl) [1, 2, 3, 4, 5, 0] rfl ?_
        refine x_goto (tgt := 26) C dX1_odds_82 (by decide) ?_
        exact ih x0 x1 x2 x3 (x4 + (1 : Int32)) (x5 + (1 : Int32)) _ hf
def f_X1_odds (n : Nat) (g : CG) (x0 : Nat) (x1 : Int32) (x2 : Int32) (x3 : Int32) (d : CD) : Option (Int32 × CD) := if ht g x0 = 1 then (f_X1_isStatue g d x0 x1).bind fun r2 => if r2 = 0 then (some ((-1 : Int32), d)) else (if (f_X1_isIn x2 (1 : Int32) (30 : Int32)) = 0 then (some ((-1 : Int32), d)) else (f_X1_odds_L26 n g n x0 x1 x2 x3 (0 : Int32) (0 : Int32) d)) else none
set_option maxHeartbeats 4000000 in
theorem w_X1_odds_E {K : KT} {T : CT} {r : Int32} {τ : CD} (n : Nat) (g : CG) (C : Kok K cX1_odds 6 RX1) (B : CB K T) (hr : (kMe K).sig.returnType = (some .int)) (dK : kR K = rmC 6 0 0) (hQ : KQc K T (some (.int r)) 0 0 g τ) (x0 : Nat) (x1 : Int32) (x2 : Int32) (x3 : Int32) (d : CD) (hf : f_X1_odds n g x0 x1 x2 x3 d = some (r, τ)) : XJ K 6 (Wc K T 0 0 g d) 0 [(0, .ref x0), (1, .int x1), (2, .int x2), (3, .int x3)] [] := by
  unfold f_X1_odds at hf
  refine x_aload_n C dX1_odds_0 0 rfl ?_
  refine x_iload_n C dX1_odds_1 1 rfl ?_
  obtain ⟨t1, hf⟩ := pf_ch hf
  obtain ⟨r2, er2, hf⟩ := pf_b hf
  refine k_X1_isStatue_X1 C B t1 dK (Nat.le_of_ble_eq_true rfl) cz er2 (Nat.le_of_ble_eq_true rfl) dX1_odds_2 ?_
  refine x_if_eq (tgt := 18) C dX1_odds_5 (by decide) (fun c3 => ?_) (fun c3 => ?_)
  · have hf := pf_t c3 hf
    refine x_iconst (-1 : Int32) C dX1_odds_18 (by decide) ?_
    obtain ⟨rfl, rfl⟩ := Prod.mk.inj (Option.some.inj hf)
    exact c_iret C hr hQ dX1_odds_19
  · have hf := pf_f c3 hf
    refine x_iload_n C dX1_odds_8 2 rfl ?_
    refine x_iconst (1 : Int32) C dX1_odds_9 (by decide) ?_
    refine x_bipush (30 : Int32) C dX1_odds_10 (by decide) ?_
    refine k_X1_isIn_X1 C B dK (Nat.le_of_ble_eq_true rfl) cz rfl (Nat.le_of_ble_eq_true rfl) dX1_odds_12 ?_
    refine x_if_ne (tgt := 20) C dX1_odds_15 (by decide) (fun c4 => ?_) (fun c4 => ?_)
    · have hf := pf_f c4 hf
      refine x_iconst (0 : Int32) C dX1_odds_20 (by decide) ?_
      refine x_istore (L' := [(0, .ref x0), (1, .int x1), (2, .int x2), (3, .int x3), (4, .int (0 : Int32))]) C dX1_odds_21 (Nat.le_of_ble_eq_true rfl) [1, 2, 3, 4, 0] rfl ?_
      refine x_iconst (0 : Int32) C dX1_odds_23 (by decide) ?_
      refine x_istore (L' := [(0, .ref x0), (1, .int x1), (2, .int x2), (3, .int x3), (4, .int (0 : Int32)), (5, .int (0 : Int32))]) C dX1_odds_24 (Nat.le_of_ble_eq_true rfl) [1, 2, 3, 4, 5, 0] rfl ?_
      exact w_X1_odds_26 n g C B hr dK hQ n x0 x1 x2 x3 (0 : Int32) (0 : Int32) _ hf
    · have hf := pf_t c4 hf
      refine x_iconst (-1 : Int32) C dX1_odds_18 (by decide) ?_
      obtain ⟨rfl, rfl⟩ := Prod.mk.inj (Option.some.inj hf)
      exact c_iret C hr hQ dX1_odds_19
theorem met_X1_odds {T : CT} {v : (Int32 × CD)} {n : Nat} {g : CG} {d : CD} {x0 : Nat} {x1 : Int32} {x2 : Int32} {x3 : Int32} {l : Launch} (hf : f_X1_odds n g x0 x1 x2 x3 d = some v) : Met l yX1_odds (ws_ yX1_odds cX1_odds 6 (some .int)) (rmC 6 0 0) (va_Pc [.ref x0, .int x1, .int x2, .int x3] (CU T g d)) (Qc T (some (.int v.1)) g v.2) 0 0 (cA T) :=
  c_met [.ref x0, .int x1, .int x2, .int x3] RX1 (by decide) rfl (Nat.le_of_ble_eq_true rfl) (fun K hl hR hr C B hQ => w_X1_odds_E _ _ C B hr hR hQ _ _ _ _ _ hf)
def f_X1_part_L8 (n : Nat) : Nat → Int32 → Int32 → Int32 → Int32 → Int32 → Option Int32
  | 0, _, _, _, _, _ => none
  | m + 1, x0, x1, x2, x3, x4 => if x4 = 0 then (if x2 = 0 then (if ¬ x3 = 0 then some (x0 / x3) else none) else (if ¬ x3 = 0 then some (x1 / x3) else none)) else (if ¬ x4 = 0 then ev (x3 - x3 / x4 * x4) fun v6 => f_X1_part_L8 n m x0 x1 x2 x4 v6 else none)
set_option maxHeartbeats 4000000 in
theorem w_X1_part_8 {K : KT} {T : CT} {r : Int32} {g : CG} {d : CD} (n : Nat) (C : Kok K cX1_part 6 RX1) (B : CB K T) (hr : (kMe K).sig.returnType = (some .int)) (dK : kR K = rmC 2 0 0) (hQ : KQc K T (some (.int r)) 0 0 g d) : ∀ (m : Nat) (x0 : Int32) (x1 : Int32) (x2 : Int32) (x3 : Int32) (x4 : Int32) (hf : f_X1_part_L8 n m x0 x1 x2 x3 x4 = some r), XJ K 6 (Wc K T 0 0 g d) 8 [(0, .int x0), (1, .int x1), (2, .int x2), (3, .int x3), (4, .int x4)] [] := by
  intro m
  induction m with
  | zero => intro x0 x1 x2 x3 x4 hf; cases hf
  | succ m ih =>
    intro x0 x1 x2 x3 x4 hf
    rw [f_X1_part_L8] at hf
    refine x_iload C dX1_part_8 4 rfl ?_
    refine x_if_eq (tgt := 29) C dX1_part_10 (by decide) (fun c1 => ?_) (fun c1 => ?_)
    · have hf := pf_t c1 hf
      refine x_iload_n C dX1_part_29 2 rfl ?_
      refine x_if_ne (tgt := 37) C dX1_part_30 (by decide) (fun c2 => ?_) (fun c2 => ?_)
      · have hf := pf_f c2 hf
        refine x_iload_n C dX1_part_37 1 rfl ?_
        refine x_iload_n C dX1_part_38 3 rfl ?_
        obtain ⟨h3, hf⟩ := pf_ch hf
        refine x_idiv C h3 dX1_part_39 ?_
        obtain rfl := Option.some.inj hf
        exact c_iret C hr hQ dX1_part_40
      · have hf := pf_t c2 hf
        refine x_iload_n C dX1_part_33 0 rfl ?_
        refine x_goto (tgt := 38) C dX1_part_34 (by decide) ?_
        refine x_iload_n C dX1_part_38 3 rfl ?_
        obtain ⟨h4, hf⟩ := pf_ch hf
        refine x_idiv C h4 dX1_part_39 ?_
        obtain rfl := Option.some.inj hf
        exact c_iret C hr hQ dX1_part_40
    · have hf := pf_f c1 hf
      refine x_iload_n C dX1_part_13 3 rfl ?_
      refine x_iload C dX1_part_14 4 rfl ?_
      obtain ⟨h5, hf⟩ := pf_ch hf
      refine x_irem C h5 dX1_part_16 ?_
      obtain ⟨v6, ev6, hf⟩ := pf_e hf
      refine x_topir ev6 ?_
      refine x_istore (L' := [(0, .int x0), (1, .int x1), (2, .int x2), (4, .int x4), (5, .int v6)]) C dX1_part_17 (Nat.le_of_ble_eq_true rfl) [1, 2, 3, 5, 0] rfl ?_
      refine x_iload C dX1_part_19 3 rfl ?_
      refine x_istore_n (L' := [(0, .int x0), (1, .int x1), (2, .int x2), (3, .int x4), (5, .int v6)]) C dX1_part_21 (Nat.le_of_ble_eq_true rfl) [1, 2, 3, 0, 5] rfl ?_
      refine x_iload C dX1_part_22 4 rfl ?_
      refine x_istore (L' := [(0, .int x0), (1, .int x1), (2, .int x2), (3, .int x4), (4, .int v6)]) C dX1_part_24 (Nat.le_of_ble_eq_true rfl) [1, 2, 3, 4, 0] rfl ?_
      refine x_goto (tgt := 8) C dX1_part_26 (by decide) ?_
      exact ih x0 x1 x2 x4 v6 hf
def f_X1_part (n : Nat) (x0 : Int32) (x1 : Int32) (x2 : Int32) : Option Int32 := ev (j_abs x0) fun v1 => f_X1_part_L8 n n x0 x1 x2 v1 x1
set_option maxHeartbeats 4000000 in
theorem w_X1_part_E {K : KT} {T : CT} {r : Int32} {g : CG} {d : CD} (n : Nat) (C : Kok K cX1_part 6 RX1) (B : CB K T) (hr : (kMe K).sig.returnType = (some .int)) (dK : kR K = rmC 2 0 0) (hQ : KQc K T (some (.int r)) 0 0 g d) (x0 : Int32) (x1 : Int32) (x2 : Int32) (hf : f_X1_part n x0 x1 x2 = some r) : XJ K 6 (Wc K T 0 0 g d) 0 [(0, .int x0), (1, .int x1), (2, .int x2)] [] := by
  unfold f_X1_part at hf
  refine x_iload_n C dX1_part_0 0 rfl ?_
  refine c_mabs C q1240 dK (Nat.le_of_ble_eq_true rfl) cz (Nat.le_of_ble_eq_true rfl) dX1_part_1 ?_
  obtain ⟨v1, ev1, hf⟩ := pf_e hf
  refine x_topir ev1 ?_
  refine x_istore_n (L' := [(0, .int x0), (1, .int x1), (2, .int x2), (3, .int v1)]) C dX1_part_4 (Nat.le_of_ble_eq_true rfl) [1, 2, 3, 0] rfl ?_
  refine x_iload_n C dX1_part_5 1 rfl ?_
  refine x_istore (L' := [(0, .int x0), (1, .int x1), (2, .int x2), (3, .int v1), (4, .int x1)]) C dX1_part_6 (Nat.le_of_ble_eq_true rfl) [1, 2, 3, 4, 0] rfl ?_
  exact w_X1_part_8 n C B hr dK hQ n x0 x1 x2 v1 x1 hf
theorem met_X1_part {T : CT} {v : Int32} {n : Nat} {g : CG} {d : CD} {x0 : Int32} {x1 : Int32} {x2 : Int32} {l : Launch} (hf : f_X1_part n x0 x1 x2 = some v) : Met l yX1_part (ws_ yX1_part cX1_part 6 (some .int)) (rmC 2 0 0) (va_Pc [.int x0, .int x1, .int x2] (CU T g d)) (Qc T (some (.int v)) g d) 0 0 (cA T) :=
  c_met [.int x0, .int x1, .int x2] RX1 (by decide) rfl (Nat.le_of_ble_eq_true rfl) (fun K hl hR hr C B hQ => w_X1_part_E _ C B hr hR hQ _ _ _ hf)
theorem k_X1_gain_X1 {K : KT} {T : CT} {c0 s0 c1 s1 dk : Nat} {cc : ByteArray} {nL pc : Nat} {L : List (Nat × Value)} {rest : List Value} {g : CG} {d : CD} {v : Int32} {n : Nat} {x0 : Nat} {x1 : Int32} {x2 : Int32} (C : Kok K cc nL RX1) (B : CB K T) (hta : ht g x0 = 1) (dK : kR K = rmC dk c1 s1) (hd : 4 + 1 ≤ dk) (hcs : c0 + 0 ≤ c1 ∧ s0 + 0 ≤ s1) (hf : f_X1_gain n g d x0 x1 x2 = some v) (hW : (rest.map fun v => v.category).sum ≤ 8) (dd : decode cc pc = .ok (.invokevirtual 391, 3)) (kk2 : XJ K nL (Wc K T c0 s0 g d) (pc + 3) L ((.int v) :: rest)) : XJ K nL (Wc K T c0 s0 g d) pc L (.int x2 :: .int x1 :: .ref x0 :: rest) :=
  c_callV (rest := rest) (v := (some (.int v))) [.int x1, .int x2] 2 rfl C B hta (by decide) (by decide) rfl dK hd (Nat.le_of_ble_eq_true rfl) hcs (lw_V q1170 q1172 qs21 q121 q1173) (by decide +kernel) (met_X1_gain hf) rfl hW dd kk2
def f_X1_places_L91 (n : Nat) (g : CG) (k36 : Nat → Int32 → CD → Option CD) (k42 : Nat → Int32 → Int32 → CD → Option CD) : Nat → Nat → Int32 → Int32 → Int32 → Int32 → CD → Option CD
  | 0, _, _, _, _, _, _ => none
  | m + 1, x0, x2, x3, x4, x5, d => if ht g x0 = 1 then (hr g x0 6).bind fun p2 => if ht g p2 = 3 then if (hi d p2 17) ≤ x5 then ((hr g x0 14).bind fun p5 => if ht g p5 = 108 then if inb x2 (hn g p5) = true then (hr g p5 (Int32.toNatClampNeg x2)).bind fun p8 => if ht g p8 = 100 then if inb x3 (hn g p8) = true then ev (wi d p8 (Int32.toNatClampNeg x3) x4) fun s11 => k42 x0 x2 (x3 + (1 : Int32)) s11 else none else none else none else none) else ((hr g x0 7).bind fun p12 => if ht g p12 = 4 then (hr g p12 0).bind fun p14 => if ht g p14 = 105 then if inb x2 (hn g p14) = true then (hr g p14 (Int32.toNatClampNeg x2)).bind fun p17 => if ht g p17 = 5 then (f_X5_isGone g d p17).bind fun r19 => if r19 = 0 then (if (f_X1_has x3 x5) = 0 then ((hr g x0 14).bind fun p29 => if ht g p29 = 108 then if inb (x2 + (1 : Int32)) (hn g p29) = true then (hr g p29 (Int32.toNatClampNeg (x2 + (1 : Int32)))).bind fun p32 => if ht g p32 = 100 then if inb (x3 ||| ((1 : Int32) <<< (x5 &&& 31))) (hn g p32) = true then if (hi d p32 (Int32.toNatClampNeg (x3 ||| ((1 : Int32) <<< (x5 &&& 31))))) = (-1000000000 : Int32) then (f_X1_places_L91 n g k36 k42 m x0 x2 x3 x4 (x5 + (1 : Int32)) d) else ((f_X1_gain n g d x0 x2 x5).bind fun r36 => ev (j_max x4 (r36 + (hi d p32 (Int32.toNatClampNeg (x3 ||| ((1 : Int32) <<< (x5 &&& 31))))))) fun v37 => f_X1_places_L91 n g k36 k42 m x0 x2 x3 v37 (x5 + (1 : Int32)) d) else none else none else none else none) else (f_X1_places_L91 n g k36 k42 m x0 x2 x3 x4 (x5 + (1 : Int32)) d)) else ((hr g x0 14).bind fun p21 => if ht g p21 = 108 then if inb x2 (hn g p21) = true then (hr g p21 (Int32.toNatClampNeg x2)).bind fun p24 => if ht g p24 = 100 then if inb x3 (hn g p24) = true then ev (wi d p24 (Int32.toNatClampNeg x3) x4) fun s27 => k42 x0 x2 (x3 + (1 : Int32)) s27 else none else none else none else none) else none else none else none else none) else none else none
set_option maxHeartbeats 4000000 in
theorem w_X1_places_91 {K : KT} {T : CT} {τ : CD} (n : Nat) (g : CG) (k36 : Nat → Int32 → CD → Option CD) (k42 : Nat → Int32 → Int32 → CD → Option CD) (C : Kok K cX1_places 6 RX1) (B : CB K T) (hr : (kMe K).sig.returnType = none) (dK : kR K = rmC 5 0 0) (hQ : KQc K T none 0 0 g τ)  (hk36 : ∀ (x0 : Nat) (x2 : Int32) (d : CD), k36 x0 x2 d = some τ → XJ K 6 (Wc K T 0 0 g d) 36 [(0, .ref x0), (2, .int x2)] []) (hk42 : ∀ (x0 : Nat) (x2 : Int32) (x3 : Int32) (d : CD), k42 x0 x2 x3 d = some τ → XJ K 6 (Wc K T 0 0 g d) 42 [(0, .ref x0), (2, .int x2), (3, .int x3)] []) : ∀ (m : Nat) (x0 : Nat) (x2 : Int32) (x3 : Int32) (x4 : Int32) (x5 : Int32) (d : CD) (hf : f_X1_places_L91 n g k36 k42 m x0 x2 x3 x4 x5 d = some τ), XJ K 6 (Wc K T 0 0 g d) 91 [(0, .ref x0), (2, .int x2), (3, .int x3), (4, .int x4), (5, .int x5)] [] := by
  intro m
  induction m with
  | zero => intro x0 x2 x3 x4 x5 d hf; cases hf
  | succ m ih =>
    intro x0 x2 x3 x4 x5 d hf
    rw [f_X1_places_L91] at hf
    refine x_iload C dX1_places_91 4 rfl ?_
    refine x_aload_n C dX1_places_93 0 rfl ?_
    obtain ⟨t1, hf⟩ := pf_ch hf
    obtain ⟨p2, ep2, hf⟩ := pf_b hf
    refine cg1_6 C B t1 (flo C q621) fsm ep2 dX1_places_94 ?_
    obtain ⟨t3, hf⟩ := pf_ch hf
    refine cg3_17 C B t3 (fln B q326) fsm dX1_places_97 ?_
    refine x_icmp_ge (tgt := 187) C dX1_places_100 (by decide) (fun c4 => ?_) (fun c4 => ?_)
    · have hf := pf_t c4 hf
      refine x_aload_n C dX1_places_187 0 rfl ?_
      obtain ⟨p5, ep5, hf⟩ := pf_b hf
      refine cg1_14 C B t1 (flo C q633) fsm ep5 dX1_places_188 ?_
      refine x_iload_n C dX1_places_191 1 rfl ?_
      obtain ⟨t6, hf⟩ := pf_ch hf
      obtain ⟨h7, hf⟩ := pf_in hf
      obtain ⟨p8, ep8, hf⟩ := pf_b hf
      refine ca_ald8 C B t6 h7 ep8 dX1_places_192 ?_
      refine x_iload_n C dX1_places_193 2 rfl ?_
      refine x_iload C dX1_places_194 3 rfl ?_
      obtain ⟨t9, hf⟩ := pf_ch hf
      obtain ⟨h10, hf⟩ := pf_in hf
      refine ca_ist C B t9 h10 dX1_places_196 ?_
      obtain ⟨s11, es11, hf⟩ := pf_e hf
      refine c_ren es11 ?_
      refine x_inc (c := (1 : Int32)) (L' := [(0, .ref x0), (2, .int x2), (3, .int (x3 + (1 : Int32)))]) C dX1_places_197 2 rfl (by decide) (Nat.le_of_ble_eq_true rfl) [1, 2, 0] rfl ?_
      refine x_goto (tgt := 42) C dX1_places_200 (by decide) ?_
      exact hk42 x0 x2 (x3 + (1 : Int32)) _ hf
    · have hf := pf_f c4 hf
      refine x_aload_n C dX1_places_103 0 rfl ?_
      obtain ⟨p12, ep12, hf⟩ := pf_b hf
      refine cg1_7 C B t1 (flo C q624) fsm ep12 dX1_places_104 ?_
      obtain ⟨t13, hf⟩ := pf_ch hf
      obtain ⟨p14, ep14, hf⟩ := pf_b hf
      refine cg4_0 C B t13 (fln B q451) fsm ep14 dX1_places_107 ?_
      refine x_iload_n C dX1_places_110 1 rfl ?_
      obtain ⟨t15, hf⟩ := pf_ch hf
      obtain ⟨h16, hf⟩ := pf_in hf
      obtain ⟨p17, ep17, hf⟩ := pf_b hf
      refine ca_ald5 C B t15 h16 ep17 dX1_places_111 ?_
      obtain ⟨t18, hf⟩ := pf_ch hf
      obtain ⟨r19, er19, hf⟩ := pf_b hf
      refine k_X5_isGone_X1 C B t18 dK (Nat.le_of_ble_eq_true rfl) cz er19 (Nat.le_of_ble_eq_true rfl) dX1_places_112 ?_
      refine x_if_ne (tgt := 187) C dX1_places_115 (by decide) (fun c20 => ?_) (fun c20 => ?_)
      · have hf := pf_f c20 hf
        refine x_aload_n C dX1_places_187 0 rfl ?_
        obtain ⟨p21, ep21, hf⟩ := pf_b hf
        refine cg1_14 C B t1 (flo C q633) fsm ep21 dX1_places_188 ?_
        refine x_iload_n C dX1_places_191 1 rfl ?_
        obtain ⟨t22, hf⟩ := pf_ch hf
        obtain ⟨h23, hf⟩ := pf_in hf
        obtain ⟨p24, ep24, hf⟩ := pf_b hf
        refine ca_ald8 C B t22 h23 ep24 dX1_places_192 ?_
        refine x_iload_n C dX1_places_193 2 rfl ?_
        refine x_iload C dX1_places_194 3 rfl ?_
        obtain ⟨t25, hf⟩ := pf_ch hf
        obtain ⟨h26, hf⟩ := pf_in hf
        refine ca_ist C B t25 h26 dX1_places_196 ?_
        obtain ⟨s27, es27, hf⟩ := pf_e hf
        refine c_ren es27 ?_
        refine x_inc (c := (1 : Int32)) (L' := [(0, .ref x0), (2, .int x2), (3, .int (x3 + (1 : Int32)))]) C dX1_places_197 2 rfl (by decide) (Nat.le_of_ble_eq_true rfl) [1, 2, 0] rfl ?_
        refine x_goto (tgt := 42) C dX1_places_200 (by decide) ?_
        exact hk42 x0 x2 (x3 + (1 : Int32)) _ hf
      · have hf := pf_t c20 hf
        refine x_iload_n C dX1_places_118 2 rfl ?_
        refine x_iload C dX1_places_119 4 rfl ?_
        refine k_X1_has_X1 C B dK (Nat.le_of_ble_eq_true rfl) cz rfl (Nat.le_of_ble_eq_true rfl) dX1_places_121 ?_
        refine x_if_ne (tgt := 181) C dX1_places_124 (by decide) (fun c28 => ?_) (fun c28 => ?_)
        · have hf := pf_f c28 hf
          refine x_inc (c := (1 : Int32)) (L' := [(0, .ref x0), (2, .int x2), (3, .int x3), (4, .int x4), (5, .int (x5 + (1 : Int32)))]) C dX1_places_181 4 rfl (by decide) (Nat.le_of_ble_eq_true rfl) [1, 2, 3, 4, 0] rfl ?_
          refine x_goto (tgt := 91) C dX1_places_184 (by decide) ?_
          exact ih x0 x2 x3 x4 (x5 + (1 : Int32)) _ hf
        · have hf := pf_t c28 hf
          refine x_aload_n C dX1_places_127 0 rfl ?_
          obtain ⟨p29, ep29, hf⟩ := pf_b hf
          refine cg1_14 C B t1 (flo C q633) fsm ep29 dX1_places_128 ?_
          refine x_iload_n C dX1_places_131 1 rfl ?_
          refine x_iconst (1 : Int32) C dX1_places_132 (by decide) ?_
          refine x_iadd C dX1_places_133 ?_
          obtain ⟨t30, hf⟩ := pf_ch hf
          obtain ⟨h31, hf⟩ := pf_in hf
          obtain ⟨p32, ep32, hf⟩ := pf_b hf
          refine ca_ald8 C B t30 h31 ep32 dX1_places_134 ?_
          refine x_iload_n C dX1_places_135 2 rfl ?_
          refine x_iconst (1 : Int32) C dX1_places_136 (by decide) ?_
          refine x_iload C dX1_places_137 4 rfl ?_
          refine x_ishl C dX1_places_139 ?_
          refine x_ior C dX1_places_140 ?_
          obtain ⟨t33, hf⟩ := pf_ch hf
          obtain ⟨h34, hf⟩ := pf_in hf
          refine ca_ild C B t33 h34 dX1_places_141 ?_
          refine x_ldcw C q1168 dX1_places_142 ?_
          refine x_icmp_ne (tgt := 151) C dX1_places_145 (by decide) (fun c35 => ?_) (fun c35 => ?_)
          · have hf := pf_f c35 hf
            refine x_iload C dX1_places_151 3 rfl ?_
            refine x_aload_n C dX1_places_153 0 rfl ?_
            refine x_iload_n C dX1_places_154 1 rfl ?_
            refine x_iload C dX1_places_155 4 rfl ?_
            obtain ⟨r36, er36, hf⟩ := pf_b hf
            refine k_X1_gain_X1 C B t1 dK (Nat.le_of_ble_eq_true rfl) cz er36 (Nat.le_of_ble_eq_true rfl) dX1_places_157 ?_
            refine x_aload_n C dX1_places_160 0 rfl ?_
            refine cg1_14 C B t1 (flo C q633) fsm ep29 dX1_places_161 ?_
            refine x_iload_n C dX1_places_164 1 rfl ?_
            refine x_iconst (1 : Int32) C dX1_places_165 (by decide) ?_
            refine x_iadd C dX1_places_166 ?_
            refine ca_ald8 C B t30 h31 ep32 dX1_places_167 ?_
            refine x_iload_n C dX1_places_168 2 rfl ?_
            refine x_iconst (1 : Int32) C dX1_places_169 (by decide) ?_
            refine x_iload C dX1_places_170 4 rfl ?_
            refine x_ishl C dX1_places_172 ?_
            refine x_ior C dX1_places_173 ?_
            refine ca_ild C B t33 h34 dX1_places_174 ?_
            refine x_iadd C dX1_places_175 ?_
            refine c_mmax C q1175 dK (Nat.le_of_ble_eq_true rfl) cz (Nat.le_of_ble_eq_true rfl) dX1_places_176 ?_
            obtain ⟨v37, ev37, hf⟩ := pf_e hf
            refine x_topir ev37 ?_
            refine x_istore (L' := [(0, .ref x0), (2, .int x2), (3, .int x3), (4, .int v37), (5, .int x5)]) C dX1_places_179 (Nat.le_of_ble_eq_true rfl) [1, 2, 3, 0, 4] rfl ?_
            refine x_inc (c := (1 : Int32)) (L' := [(0, .ref x0), (2, .int x2), (3, .int x3), (4, .int v37), (5, .int (x5 + (1 : Int32)))]) C dX1_places_181 4 rfl (by decide) (Nat.le_of_ble_eq_true rfl) [1, 2, 3, 4, 0] rfl ?_
            refine x_goto (tgt := 91) C dX1_places_184 (by decide) ?_
            exact ih x0 x2 x3 v37 (x5 + (1 : Int32)) _ hf
          · have hf := pf_t c35 hf
            refine x_goto (tgt := 181) C dX1_places_148 (by decide) ?_
            refine x_inc (c := (1 : Int32)) (L' := [(0, .ref x0), (2, .int x2), (3, .int x3), (4, .int x4), (5, .int (x5 + (1 : Int32)))]) C dX1_places_181 4 rfl (by decide) (Nat.le_of_ble_eq_true rfl) [1, 2, 3, 4, 0] rfl ?_
            refine x_goto (tgt := 91) C dX1_places_184 (by decide) ?_
            exact ih x0 x2 x3 x4 (x5 + (1 : Int32)) _ hf
def f_X1_places_L42 (n : Nat) (g : CG) (k36 : Nat → Int32 → CD → Option CD) : Nat → Nat → Int32 → Int32 → CD → Option CD
  | 0, _, _, _, _ => none
  | m + 1, x0, x2, x3, d => if ht g x0 = 1 then (hr g x0 6).bind fun p2 => if ht g p2 = 3 then if ((1 : Int32) <<< ((hi d p2 17) &&& 31)) ≤ x3 then (k36 x0 (x2 + (-1 : Int32)) d) else ((hr g x0 7).bind fun p5 => if ht g p5 = 4 then (hr g p5 0).bind fun p7 => if ht g p7 = 105 then if inb x2 (hn g p7) = true then (hr g p7 (Int32.toNatClampNeg x2)).bind fun p10 => if ht g p10 = 5 then (f_X5_isGone g d p10).bind fun r12 => if r12 = 0 then (f_X1_places_L91 n g k36 (f_X1_places_L42 n g k36 m) n x0 x2 x3 (-1000000000 : Int32) (0 : Int32) d) else ((hr g x0 14).bind fun p14 => if ht g p14 = 108 then if inb (x2 + (1 : Int32)) (hn g p14) = true then (hr g p14 (Int32.toNatClampNeg (x2 + (1 : Int32)))).bind fun p17 => if ht g p17 = 100 then if inb x3 (hn g p17) = true then ev (hi d p17 (Int32.toNatClampNeg x3)) fun v20 => f_X1_places_L91 n g k36 (f_X1_places_L42 n g k36 m) n x0 x2 x3 v20 (0 : Int32) d else none else none else none else none) else none else none else none else none) else none else none
set_option maxHeartbeats 4000000 in
theorem w_X1_places_42 {K : KT} {T : CT} {τ : CD} (n : Nat) (g : CG) (k36 : Nat → Int32 → CD → Option CD) (C : Kok K cX1_places 6 RX1) (B : CB K T) (hr : (kMe K).sig.returnType = none) (dK : kR K = rmC 5 0 0) (hQ : KQc K T none 0 0 g τ)  (hk36 : ∀ (x0 : Nat) (x2 : Int32) (d : CD), k36 x0 x2 d = some τ → XJ K 6 (Wc K T 0 0 g d) 36 [(0, .ref x0), (2, .int x2)] []) : ∀ (m : Nat) (x0 : Nat) (x2 : Int32) (x3 : Int32) (d : CD) (hf : f_X1_places_L42 n g k36 m x0 x2 x3 d = some τ), XJ K 6 (Wc K T 0 0 g d) 42 [(0, .ref x0), (2, .int x2), (3, .int x3)] [] := by
  intro m
  induction m with
  | zero => intro x0 x2 x3 d hf; cases hf
  | succ m ih =>
    intro x0 x2 x3 d hf
    rw [f_X1_places_L42] at hf
    refine x_iload_n C dX1_places_42 2 rfl ?_
    refine x_iconst (1 : Int32) C dX1_places_43 (by decide) ?_
    refine x_aload_n C dX1_places_44 0 rfl ?_
    obtain ⟨t1, hf⟩ := pf_ch hf
    obtain ⟨p2, ep2, hf⟩ := pf_b hf
    refine cg1_6 C B t1 (flo C q621) fsm ep2 dX1_places_45 ?_
    obtain ⟨t3, hf⟩ := pf_ch hf
    refine cg3_17 C B t3 (fln B q326) fsm dX1_places_48 ?_
    refine x_ishl C dX1_places_51 ?_
    refine x_icmp_ge (tgt := 203) C dX1_places_52 (by decide) (fun c4 => ?_) (fun c4 => ?_)
    · have hf := pf_t c4 hf
      refine x_inc (c := (-1 : Int32)) (L' := [(0, .ref x0), (2, .int (x2 + (-1 : Int32)))]) C dX1_places_203 1 rfl (by decide) (Nat.le_of_ble_eq_true rfl) [1, 0] rfl ?_
      refine x_goto (tgt := 36) C dX1_places_206 (by decide) ?_
      exact hk36 x0 (x2 + (-1 : Int32)) _ hf
    · have hf := pf_f c4 hf
      refine x_aload_n C dX1_places_55 0 rfl ?_
      obtain ⟨p5, ep5, hf⟩ := pf_b hf
      refine cg1_7 C B t1 (flo C q624) fsm ep5 dX1_places_56 ?_
      obtain ⟨t6, hf⟩ := pf_ch hf
      obtain ⟨p7, ep7, hf⟩ := pf_b hf
      refine cg4_0 C B t6 (fln B q451) fsm ep7 dX1_places_59 ?_
      refine x_iload_n C dX1_places_62 1 rfl ?_
      obtain ⟨t8, hf⟩ := pf_ch hf
      obtain ⟨h9, hf⟩ := pf_in hf
      obtain ⟨p10, ep10, hf⟩ := pf_b hf
      refine ca_ald5 C B t8 h9 ep10 dX1_places_63 ?_
      obtain ⟨t11, hf⟩ := pf_ch hf
      obtain ⟨r12, er12, hf⟩ := pf_b hf
      refine k_X5_isGone_X1 C B t11 dK (Nat.le_of_ble_eq_true rfl) cz er12 (Nat.le_of_ble_eq_true rfl) dX1_places_64 ?_
      refine x_if_eq (tgt := 83) C dX1_places_67 (by decide) (fun c13 => ?_) (fun c13 => ?_)
      · have hf := pf_t c13 hf
        refine x_ldcw C q1168 dX1_places_83 ?_
        refine x_istore (L' := [(0, .ref x0), (2, .int x2), (3, .int x3), (4, .int (-1000000000 : Int32))]) C dX1_places_86 (Nat.le_of_ble_eq_true rfl) [1, 2, 3, 0] rfl ?_
        refine x_iconst (0 : Int32) C dX1_places_88 (by decide) ?_
        refine x_istore (L' := [(0, .ref x0), (2, .int x2), (3, .int x3), (4, .int (-1000000000 : Int32)), (5, .int (0 : Int32))]) C dX1_places_89 (Nat.le_of_ble_eq_true rfl) [1, 2, 3, 4, 0] rfl ?_
        exact w_X1_places_91 n g _ _ C B hr dK hQ hk36 ih n x0 x2 x3 (-1000000000 : Int32) (0 : Int32) _ hf
      · have hf := pf_f c13 hf
        refine x_aload_n C dX1_places_70 0 rfl ?_
        obtain ⟨p14, ep14, hf⟩ := pf_b hf
        refine cg1_14 C B t1 (flo C q633) fsm ep14 dX1_places_71 ?_
        refine x_iload_n C dX1_places_74 1 rfl ?_
        refine x_iconst (1 : Int32) C dX1_places_75 (by decide) ?_
        refine x_iadd C dX1_places_76 ?_
        obtain ⟨t15, hf⟩ := pf_ch hf
        obtain ⟨h16, hf⟩ := pf_in hf
        obtain ⟨p17, ep17, hf⟩ := pf_b hf
        refine ca_ald8 C B t15 h16 ep17 dX1_places_77 ?_
        refine x_iload_n C dX1_places_78 2 rfl ?_
        obtain ⟨t18, hf⟩ := pf_ch hf
        obtain ⟨h19, hf⟩ := pf_in hf
        refine ca_ild C B t18 h19 dX1_places_79 ?_
        refine x_goto (tgt := 86) C dX1_places_80 (by decide) ?_
        obtain ⟨v20, ev20, hf⟩ := pf_e hf
        refine x_topir ev20 ?_
        refine x_istore (L' := [(0, .ref x0), (2, .int x2), (3, .int x3), (4, .int v20)]) C dX1_places_86 (Nat.le_of_ble_eq_true rfl) [1, 2, 3, 0] rfl ?_
        refine x_iconst (0 : Int32) C dX1_places_88 (by decide) ?_
        refine x_istore (L' := [(0, .ref x0), (2, .int x2), (3, .int x3), (4, .int v20), (5, .int (0 : Int32))]) C dX1_places_89 (Nat.le_of_ble_eq_true rfl) [1, 2, 3, 4, 0] rfl ?_
        exact w_X1_places_91 n g _ _ C B hr dK hQ hk36 ih n x0 x2 x3 v20 (0 : Int32) _ hf
def f_X1_places_L36 (n : Nat) (g : CG) : Nat → Nat → Int32 → CD → Option CD
  | 0, _, _, _ => none
  | m + 1, x0, x2, d => if x2 < 0 then (some d) else (f_X1_places_L42 n g (f_X1_places_L36 n g m) n x0 x2 (0 : Int32) d)
set_option maxHeartbeats 4000000 in
theorem w_X1_places_36 {K : KT} {T : CT} {τ : CD} (n : Nat) (g : CG) (C : Kok K cX1_places 6 RX1) (B : CB K T) (hr : (kMe K).sig.returnType = none) (dK : kR K = rmC 5 0 0) (hQ : KQc K T none 0 0 g τ) : ∀ (m : Nat) (x0 : Nat) (x2 : Int32) (d : CD) (hf : f_X1_places_L36 n g m x0 x2 d = some τ), XJ K 6 (Wc K T 0 0 g d) 36 [(0, .ref x0), (2, .int x2)] [] := by
  intro m
  induction m with
  | zero => intro x0 x2 d hf; cases hf
  | succ m ih =>
    intro x0 x2 d hf
    rw [f_X1_places_L36] at hf
    refine x_iload_n C dX1_places_36 1 rfl ?_
    refine x_if_lt (tgt := 209) C dX1_places_37 (by decide) (fun c1 => ?_) (fun c1 => ?_)
    · have hf := pf_t c1 hf
      obtain rfl := Option.some.inj hf
      exact c_vret C hr hQ dX1_places_209
    · have hf := pf_f c1 hf
      refine x_iconst (0 : Int32) C dX1_places_40 (by decide) ?_
      refine x_istore_n (L' := [(0, .ref x0), (2, .int x2), (3, .int (0 : Int32))]) C dX1_places_41 (Nat.le_of_ble_eq_true rfl) [1, 2, 0] rfl ?_
      exact w_X1_places_42 n g _ C B hr dK hQ ih n x0 x2 (0 : Int32) _ hf
def f_X1_places_L10 (n : Nat) (g : CG) : Nat → Nat → Int32 → Int32 → CD → Option CD
  | 0, _, _, _, _ => none
  | m + 1, x0, x1, x2, d => if (256 : Int32) ≤ x2 then (ev (x1 - (1 : Int32)) fun v2 => f_X1_places_L36 n g n x0 v2 d) else (if ht g x0 = 1 then (hr g x0 14).bind fun p4 => if ht g p4 = 108 then if inb x1 (hn g p4) = true then (hr g p4 (Int32.toNatClampNeg x1)).bind fun p7 => if ht g p7 = 100 then if inb x2 (hn g p7) = true then ev (wi d p7 (Int32.toNatClampNeg x2) (0 : Int32)) fun s10 => f_X1_places_L10 n g m x0 x1 (x2 + (1 : Int32)) s10 else none else none else none else none else none)
set_option maxHeartbeats 4000000 in
theorem w_X1_places_10 {K : KT} {T : CT} {τ : CD} (n : Nat) (g : CG) (C : Kok K cX1_places 6 RX1) (B : CB K T) (hr : (kMe K).sig.returnType = none) (dK : kR K = rmC 5 0 0) (hQ : KQc K T none 0 0 g τ) : ∀ (m : Nat) (x0 : Nat) (x1 : Int32) (x2 : Int32) (d : CD) (hf : f_X1_places_L10 n g m x0 x1 x2 d = some τ), XJ K 6 (Wc K T 0 0 g d) 10 [(0, .ref x0), (1, .int x1), (2, .int x2)] [] := by
  intro m
  induction m with
  | zero => intro x0 x1 x2 d hf; cases hf
  | succ m ih =>
    intro x0 x1 x2 d hf
    rw [f_X1_places_L10] at hf
    refine x_iload_n C dX1_places_10 2 rfl ?_
    refine x_sipush (256 : Int32) C dX1_places_11 (by decide) ?_
    refine x_icmp_ge (tgt := 32) C dX1_places_14 (by decide) (fun c1 => ?_) (fun c1 => ?_)
    · have hf := pf_t c1 hf
      refine x_iload_n C dX1_places_32 1 rfl ?_
      refine x_iconst (1 : Int32) C dX1_places_33 (by decide) ?_
      refine x_isub C dX1_places_34 ?_
      obtain ⟨v2, ev2, hf⟩ := pf_e hf
      refine x_topir ev2 ?_
      refine x_istore_n (L' := [(0, .ref x0), (2, .int v2)]) C dX1_places_35 (Nat.le_of_ble_eq_true rfl) [1, 0] rfl ?_
      exact w_X1_places_36 n g C B hr dK hQ n x0 v2 _ hf
    · have hf := pf_f c1 hf
      refine x_aload_n C dX1_places_17 0 rfl ?_
      obtain ⟨t3, hf⟩ := pf_ch hf
      obtain ⟨p4, ep4, hf⟩ := pf_b hf
      refine cg1_14 C B t3 (flo C q633) fsm ep4 dX1_places_18 ?_
      refine x_iload_n C dX1_places_21 1 rfl ?_
      obtain ⟨t5, hf⟩ := pf_ch hf
      obtain ⟨h6, hf⟩ := pf_in hf
      obtain ⟨p7, ep7, hf⟩ := pf_b hf
      refine ca_ald8 C B t5 h6 ep7 dX1_places_22 ?_
      refine x_iload_n C dX1_places_23 2 rfl ?_
      refine x_iconst (0 : Int32) C dX1_places_24 (by decide) ?_
      obtain ⟨t8, hf⟩ := pf_ch hf
      obtain ⟨h9, hf⟩ := pf_in hf
      refine ca_ist C B t8 h9 dX1_places_25 ?_
      obtain ⟨s10, es10, hf⟩ := pf_e hf
      refine c_ren es10 ?_
      refine x_inc (c := (1 : Int32)) (L' := [(0, .ref x0), (1, .int x1), (2, .int (x2 + (1 : Int32)))]) C dX1_places_26 2 rfl (by decide) (Nat.le_of_ble_eq_true rfl) [1, 2, 0] rfl ?_
      refine x_goto (tgt := 10) C dX1_places_29 (by decide) ?_
      exact ih x0 x1 (x2 + (1 : Int32)) _ hf
def f_X1_places (n : Nat) (g : CG) (x0 : Nat) (d : CD) : Option CD := if ht g x0 = 1 then (hr g x0 6).bind fun p2 => if ht g p2 = 3 then ev (hi d p2 20) fun v4 => f_X1_places_L10 n g n x0 v4 (0 : Int32) d else none else none
set_option maxHeartbeats 4000000 in
theorem w_X1_places_E {K : KT} {T : CT} {τ : CD} (n : Nat) (g : CG) (C : Kok K cX1_places 6 RX1) (B : CB K T) (hr : (kMe K).sig.returnType = none) (dK : kR K = rmC 5 0 0) (hQ : KQc K T none 0 0 g τ) (x0 : Nat) (d : CD) (hf : f_X1_places n g x0 d = some τ) : XJ K 6 (Wc K T 0 0 g d) 0 [(0, .ref x0)] [] := by
  unfold f_X1_places at hf
  refine x_aload_n C dX1_places_0 0 rfl ?_
  obtain ⟨t1, hf⟩ := pf_ch hf
  obtain ⟨p2, ep2, hf⟩ := pf_b hf
  refine cg1_6 C B t1 (flo C q621) fsm ep2 dX1_places_1 ?_
  obtain ⟨t3, hf⟩ := pf_ch hf
  refine cg3_20 C B t3 (fln B q337) fsm dX1_places_4 ?_
  obtain ⟨v4, ev4, hf⟩ := pf_e hf
  refine x_topir ev4 ?_
  refine x_istore_n (L' := [(0, .ref x0), (1, .int v4)]) C dX1_places_7 (Nat.le_of_ble_eq_true rfl) [1, 0] rfl ?_
  refine x_iconst (0 : Int32) C dX1_places_8 (by decide) ?_
  refine x_istore_n (L' := [(0, .ref x0), (1, .int v4), (2, .int (0 : Int32))]) C dX1_places_9 (Nat.le_of_ble_eq_true rfl) [1, 2, 0] rfl ?_
  exact w_X1_places_10 n g C B hr dK hQ n x0 v4 (0 : Int32) _ hf
theorem met_X1_places {T : CT} {v : CD} {n : Nat} {g : CG} {d : CD} {x0 : Nat} {l : Launch} (hf : f_X1_places n g x0 d = some v) : Met l yX1_places (ws_ yX1_places cX1_places 6 none) (rmC 5 0 0) (va_Pc [.ref x0] (CU T g d)) (Qc T none g v) 0 0 (cA T) :=
  c_met [.ref x0] RX1 (by decide) rfl (Nat.le_of_ble_eq_true rfl) (fun K hl hR hr C B hQ => w_X1_places_E _ _ C B hr hR hQ _ _ hf)
theorem k_X1_places_X1 {K : KT} {T : CT} {c0 s0 c1 s1 dk : Nat} {cc : ByteArray} {nL pc : Nat} {L : List (Nat × Value)} {rest : List Value} {g : CG} {d : CD} {v : CD} {n : Nat} {x0 : Nat} (C : Kok K cc nL RX1) (B : CB K T) (hta : ht g x0 = 1) (dK : kR K = rmC dk c1 s1) (hd : 5 + 1 ≤ dk) (hcs : c0 + 0 ≤ c1 ∧ s0 + 0 ≤ s1) (hf : f_X1_places n g x0 d = some v) (hW : (rest.map fun v => v.category).sum ≤ 8) (dd : decode cc pc = .ok (.invokevirtual 397, 3)) (kk2 : XJ K nL (Wc K T c0 s0 g v) (pc + 3) L (rest)) : XJ K nL (Wc K T c0 s0 g d) pc L (.ref x0 :: rest) :=
  c_callV (rest := rest) (v := none) [] 0 rfl C B hta (by decide) (by decide) rfl dK hd (Nat.le_of_ble_eq_true rfl) hcs (lw_V q1164 q1166 qs20 q121 q1167) (by decide +kernel) (met_X1_places hf) rfl hW dd kk2
def f_X1_placed_L48 (n : Nat) (g : CG) (k21 : Nat → Int32 → Int32 → Int32 → Int32 → CD → Option (Int32 × CD)) : Nat → Nat → Int32 → Int32 → Int32 → Int32 → CD → Option (Int32 × CD)
  | 0, _, _, _, _, _, _ => none
  | m + 1, x0, x1, x2, x3, x4, d => if (f_X1_has x2 x3) = 0 then (if ht g x0 = 1 then (hr g x0 14).bind fun p3 => if ht g p3 = 108 then if inb (x4 + (1 : Int32)) (hn g p3) = true then (hr g p3 (Int32.toNatClampNeg (x4 + (1 : Int32)))).bind fun p6 => if ht g p6 = 100 then if inb (x2 ||| ((1 : Int32) <<< (x3 &&& 31))) (hn g p6) = true then if (hi d p6 (Int32.toNatClampNeg (x2 ||| ((1 : Int32) <<< (x3 &&& 31))))) = (-1000000000 : Int32) then (f_X1_placed_L48 n g k21 m x0 x1 x2 (x3 + (1 : Int32)) x4 d) else ((f_X1_gain n g d x0 x4 x3).bind fun r10 => if inb x4 (hn g p3) = true then (hr g p3 (Int32.toNatClampNeg x4)).bind fun p12 => if ht g p12 = 100 then if inb x2 (hn g p12) = true then if (r10 + (hi d p6 (Int32.toNatClampNeg (x2 ||| ((1 : Int32) <<< (x3 &&& 31)))))) = (hi d p12 (Int32.toNatClampNeg x2)) then (ev (x2 ||| ((1 : Int32) <<< (x3 &&& 31))) fun v16 => k21 x0 x1 v16 x3 (x4 + (1 : Int32)) d) else (f_X1_placed_L48 n g k21 m x0 x1 x2 (x3 + (1 : Int32)) x4 d) else none else none else none) else none else none else none else none else none) else (f_X1_placed_L48 n g k21 m x0 x1 x2 (x3 + (1 : Int32)) x4 d)
set_option maxHeartbeats 4000000 in
theorem w_X1_placed_48 {K : KT} {T : CT} {r : Int32} {τ : CD} (n : Nat) (g : CG) (k21 : Nat → Int32 → Int32 → Int32 → Int32 → CD → Option (Int32 × CD)) (C : Kok K cX1_placed 5 RX1) (B : CB K T) (hr : (kMe K).sig.returnType = (some .int)) (dK : kR K = rmC 6 0 0) (hQ : KQc K T (some (.int r)) 0 0 g τ)  (hk21 : ∀ (x0 : Nat) (x1 : Int32) (x2 : Int32) (x3 : Int32) (x4 : Int32) (d : CD), k21 x0 x1 x2 x3 x4 d = some (r, τ) → XJ K 5 (Wc K T 0 0 g d) 21 [(0, .ref x0), (1, .int x1), (2, .int x2), (3, .int x3), (4, .int x4)] []) : ∀ (m : Nat) (x0 : Nat) (x1 : Int32) (x2 : Int32) (x3 : Int32) (x4 : Int32) (d : CD) (hf : f_X1_placed_L48 n g k21 m x0 x1 x2 x3 x4 d = some (r, τ)), XJ K 5 (Wc K T 0 0 g d) 48 [(0, .ref x0), (1, .int x1), (2, .int x2), (3, .int x3), (4, .int x4)] [] := by
  intro m
  induction m with
  | zero => intro x0 x1 x2 x3 x4 d hf; cases hf
  | succ m ih =>
    intro x0 x1 x2 x3 x4 d hf
    rw [f_X1_placed_L48] at hf
    refine x_iload_n C dX1_placed_48 2 rfl ?_
    refine x_iload_n C dX1_placed_49 3 rfl ?_
    refine k_X1_has_X1 C B dK (Nat.le_of_ble_eq_true rfl) cz rfl (Nat.le_of_ble_eq_true rfl) dX1_placed_50 ?_
    refine x_if_ne (tgt := 112) C dX1_placed_53 (by decide) (fun c1 => ?_) (fun c1 => ?_)
    · have hf := pf_f c1 hf
      refine x_inc (c := (1 : Int32)) (L' := [(0, .ref x0), (1, .int x1), (2, .int x2), (3, .int (x3 + (1 : Int32))), (4, .int x4)]) C dX1_placed_112 3 rfl (by decide) (Nat.le_of_ble_eq_true rfl) [1, 2, 3, 0, 4] rfl ?_
      refine x_goto (tgt := 48) C dX1_placed_115 (by decide) ?_
      exact ih x0 x1 x2 (x3 + (1 : Int32)) x4 _ hf
    · have hf := pf_t c1 hf
      refine x_aload_n C dX1_placed_56 0 rfl ?_
      obtain ⟨t2, hf⟩ := pf_ch hf
      obtain ⟨p3, ep3, hf⟩ := pf_b hf
      refine cg1_14 C B t2 (flo C q633) fsm ep3 dX1_placed_57 ?_
      refine x_iload C dX1_placed_60 4 rfl ?_
      refine x_iconst (1 : Int32) C dX1_placed_62 (by decide) ?_
      refine x_iadd C dX1_placed_63 ?_
      obtain ⟨t4, hf⟩ := pf_ch hf
      obtain ⟨h5, hf⟩ := pf_in hf
      obtain ⟨p6, ep6, hf⟩ := pf_b hf
      refine ca_ald8 C B t4 h5 ep6 dX1_placed_64 ?_
      refine x_iload_n C dX1_placed_65 2 rfl ?_
      refine x_iconst (1 : Int32) C dX1_placed_66 (by decide) ?_
      refine x_iload_n C dX1_placed_67 3 rfl ?_
      refine x_ishl C dX1_placed_68 ?_
      refine x_ior C dX1_placed_69 ?_
      obtain ⟨t7, hf⟩ := pf_ch hf
      obtain ⟨h8, hf⟩ := pf_in hf
      refine ca_ild C B t7 h8 dX1_placed_70 ?_
      refine x_ldcw C q1168 dX1_placed_71 ?_
      refine x_icmp_eq (tgt := 112) C dX1_placed_74 (by decide) (fun c9 => ?_) (fun c9 => ?_)
      · have hf := pf_t c9 hf
        refine x_inc (c := (1 : Int32)) (L' := [(0, .ref x0), (1, .int x1), (2, .int x2), (3, .int (x3 + (1 : Int32))), (4, .int x4)]) C dX1_placed_112 3 rfl (by decide) (Nat.le_of_ble_eq_true rfl) [1, 2, 3, 0, 4] rfl ?_
        refine x_goto (tgt := 48) C dX1_placed_115 (by decide) ?_
        exact ih x0 x1 x2 (x3 + (1 : Int32)) x4 _ hf
      · have hf := pf_f c9 hf
        refine x_aload_n C dX1_placed_77 0 rfl ?_
        refine x_iload C dX1_placed_78 4 rfl ?_
        refine x_iload_n C dX1_placed_80 3 rfl ?_
        obtain ⟨r10, er10, hf⟩ := pf_b hf
        refine k_X1_gain_X1 C B t2 dK (Nat.le_of_ble_eq_true rfl) cz er10 (Nat.le_of_ble_eq_true rfl) dX1_placed_81 ?_
        refine x_aload_n C dX1_placed_84 0 rfl ?_
        refine cg1_14 C B t2 (flo C q633) fsm ep3 dX1_placed_85 ?_
        refine x_iload C dX1_placed_88 4 rfl ?_
        refine x_iconst (1 : Int32) C dX1_placed_90 (by decide) ?_
        refine x_iadd C dX1_placed_91 ?_
        refine ca_ald8 C B t4 h5 ep6 dX1_placed_92 ?_
        refine x_iload_n C dX1_placed_93 2 rfl ?_
        refine x_iconst (1 : Int32) C dX1_placed_94 (by decide) ?_
        refine x_iload_n C dX1_placed_95 3 rfl ?_
        refine x_ishl C dX1_placed_96 ?_
        refine x_ior C dX1_placed_97 ?_
        refine ca_ild C B t7 h8 dX1_placed_98 ?_
        refine x_iadd C dX1_placed_99 ?_
        refine x_aload_n C dX1_placed_100 0 rfl ?_
        refine cg1_14 C B t2 (flo C q633) fsm ep3 dX1_placed_101 ?_
        refine x_iload C dX1_placed_104 4 rfl ?_
        obtain ⟨h11, hf⟩ := pf_in hf
        obtain ⟨p12, ep12, hf⟩ := pf_b hf
        refine ca_ald8 C B t4 h11 ep12 dX1_placed_106 ?_
        refine x_iload_n C dX1_placed_107 2 rfl ?_
        obtain ⟨t13, hf⟩ := pf_ch hf
        obtain ⟨h14, hf⟩ := pf_in hf
        refine ca_ild C B t13 h14 dX1_placed_108 ?_
        refine x_icmp_eq (tgt := 118) C dX1_placed_109 (by decide) (fun c15 => ?_) (fun c15 => ?_)
        · have hf := pf_t c15 hf
          refine x_iload_n C dX1_placed_118 2 rfl ?_
          refine x_iconst (1 : Int32) C dX1_placed_119 (by decide) ?_
          refine x_iload_n C dX1_placed_120 3 rfl ?_
          refine x_ishl C dX1_placed_121 ?_
          refine x_ior C dX1_placed_122 ?_
          obtain ⟨v16, ev16, hf⟩ := pf_e hf
          refine x_topir ev16 ?_
          refine x_istore_n (L' := [(0, .ref x0), (1, .int x1), (2, .int v16), (3, .int x3), (4, .int x4)]) C dX1_placed_123 (Nat.le_of_ble_eq_true rfl) [1, 2, 0, 3, 4] rfl ?_
          refine x_inc (c := (1 : Int32)) (L' := [(0, .ref x0), (1, .int x1), (2, .int v16), (3, .int x3), (4, .int (x4 + (1 : Int32)))]) C dX1_placed_124 4 rfl (by decide) (Nat.le_of_ble_eq_true rfl) [1, 2, 3, 4, 0] rfl ?_
          refine x_goto (tgt := 21) C dX1_placed_127 (by decide) ?_
          exact hk21 x0 x1 v16 x3 (x4 + (1 : Int32)) _ hf
        · have hf := pf_f c15 hf
          refine x_inc (c := (1 : Int32)) (L' := [(0, .ref x0), (1, .int x1), (2, .int x2), (3, .int (x3 + (1 : Int32))), (4, .int x4)]) C dX1_placed_112 3 rfl (by decide) (Nat.le_of_ble_eq_true rfl) [1, 2, 3, 0, 4] rfl ?_
          refine x_goto (tgt := 48) C dX1_placed_115 (by decide) ?_
          exact ih x0 x1 x2 (x3 + (1 : Int32)) x4 _ hf
def f_X1_placed_L21 (n : Nat) (g : CG) : Nat → Nat → Int32 → Int32 → Int32 → Int32 → CD → Option (Int32 × CD)
  | 0, _, _, _, _, _, _ => none
  | m + 1, x0, x1, x2, x3, x4, d => if x1 < x4 then (some (x3, d)) else (if ht g x0 = 1 then (hr g x0 7).bind fun p3 => if ht g p3 = 4 then (hr g p3 0).bind fun p5 => if ht g p5 = 105 then if inb x4 (hn g p5) = true then (hr g p5 (Int32.toNatClampNeg x4)).bind fun p8 => if ht g p8 = 5 then (f_X5_isGone g d p8).bind fun r10 => if r10 = 0 then (f_X1_placed_L48 n g (f_X1_placed_L21 n g m) n x0 x1 x2 (0 : Int32) x4 d) else (f_X1_placed_L21 n g m x0 x1 x2 x3 (x4 + (1 : Int32)) d) else none else none else none else none else none)
set_option maxHeartbeats 4000000 in
theorem w_X1_placed_21 {K : KT} {T : CT} {r : Int32} {τ : CD} (n : Nat) (g : CG) (C : Kok K cX1_placed 5 RX1) (B : CB K T) (hr : (kMe K).sig.returnType = (some .int)) (dK : kR K = rmC 6 0 0) (hQ : KQc K T (some (.int r)) 0 0 g τ) : ∀ (m : Nat) (x0 : Nat) (x1 : Int32) (x2 : Int32) (x3 : Int32) (x4 : Int32) (d : CD) (hf : f_X1_placed_L21 n g m x0 x1 x2 x3 x4 d = some (r, τ)), XJ K 5 (Wc K T 0 0 g d) 21 [(0, .ref x0), (1, .int x1), (2, .int x2), (3, .int x3), (4, .int x4)] [] := by
  intro m
  induction m with
  | zero => intro x0 x1 x2 x3 x4 d hf; cases hf
  | succ m ih =>
    intro x0 x1 x2 x3 x4 d hf
    rw [f_X1_placed_L21] at hf
    refine x_iload C dX1_placed_21 4 rfl ?_
    refine x_iload_n C dX1_placed_23 1 rfl ?_
    refine x_icmp_gt (tgt := 130) C dX1_placed_24 (by decide) (fun c1 => ?_) (fun c1 => ?_)
    · have hf := pf_t c1 hf
      refine x_iload_n C dX1_placed_130 3 rfl ?_
      obtain ⟨rfl, rfl⟩ := Prod.mk.inj (Option.some.inj hf)
      exact c_iret C hr hQ dX1_placed_131
    · have hf := pf_f c1 hf
      refine x_aload_n C dX1_placed_27 0 rfl ?_
      obtain ⟨t2, hf⟩ := pf_ch hf
      obtain ⟨p3, ep3, hf⟩ := pf_b hf
      refine cg1_7 C B t2 (flo C q624) fsm ep3 dX1_placed_28 ?_
      obtain ⟨t4, hf⟩ := pf_ch hf
      obtain ⟨p5, ep5, hf⟩ := pf_b hf
      refine cg4_0 C B t4 (fln B q451) fsm ep5 dX1_placed_31 ?_
      refine x_iload C dX1_placed_34 4 rfl ?_
      obtain ⟨t6, hf⟩ := pf_ch hf
      obtain ⟨h7, hf⟩ := pf_in hf
      obtain ⟨p8, ep8, hf⟩ := pf_b hf
      refine ca_ald5 C B t6 h7 ep8 dX1_placed_36 ?_
      obtain ⟨t9, hf⟩ := pf_ch hf
      obtain ⟨r10, er10, hf⟩ := pf_b hf
      refine k_X5_isGone_X1 C B t9 dK (Nat.le_of_ble_eq_true rfl) cz er10 (Nat.le_of_ble_eq_true rfl) dX1_placed_37 ?_
      refine x_if_eq (tgt := 46) C dX1_placed_40 (by decide) (fun c11 => ?_) (fun c11 => ?_)
      · have hf := pf_t c11 hf
        refine x_iconst (0 : Int32) C dX1_placed_46 (by decide) ?_
        refine x_istore_n (L' := [(0, .ref x0), (1, .int x1), (2, .int x2), (3, .int (0 : Int32)), (4, .int x4)]) C dX1_placed_47 (Nat.le_of_ble_eq_true rfl) [1, 2, 3, 0, 4] rfl ?_
        exact w_X1_placed_48 n g _ C B hr dK hQ ih n x0 x1 x2 (0 : Int32) x4 _ hf
      · have hf := pf_f c11 hf
        refine x_goto (tgt := 124) C dX1_placed_43 (by decide) ?_
        refine x_inc (c := (1 : Int32)) (L' := [(0, .ref x0), (1, .int x1), (2, .int x2), (3, .int x3), (4, .int (x4 + (1 : Int32)))]) C dX1_placed_124 4 rfl (by decide) (Nat.le_of_ble_eq_true rfl) [1, 2, 3, 4, 0] rfl ?_
        refine x_goto (tgt := 21) C dX1_placed_127 (by decide) ?_
        exact ih x0 x1 x2 x3 (x4 + (1 : Int32)) _ hf
def f_X1_placed (n : Nat) (g : CG) (x0 : Nat) (x1 : Int32) (d : CD) : Option (Int32 × CD) := if ht g x0 = 1 then (f_X1_isHere g d x0 x1).bind fun r2 => if r2 = 0 then (some ((-1 : Int32), d)) else ((f_X1_places n g x0 d).bind fun r4 => f_X1_placed_L21 n g n x0 x1 (0 : Int32) (-1 : Int32) (0 : Int32) r4) else none
set_option maxHeartbeats 4000000 in
theorem w_X1_placed_E {K : KT} {T : CT} {r : Int32} {τ : CD} (n : Nat) (g : CG) (C : Kok K cX1_placed 5 RX1) (B : CB K T) (hr : (kMe K).sig.returnType = (some .int)) (dK : kR K = rmC 6 0 0) (hQ : KQc K T (some (.int r)) 0 0 g τ) (x0 : Nat) (x1 : Int32) (d : CD) (hf : f_X1_placed n g x0 x1 d = some (r, τ)) : XJ K 5 (Wc K T 0 0 g d) 0 [(0, .ref x0), (1, .int x1)] [] := by
  unfold f_X1_placed at hf
  refine x_aload_n C dX1_placed_0 0 rfl ?_
  refine x_iload_n C dX1_placed_1 1 rfl ?_
  obtain ⟨t1, hf⟩ := pf_ch hf
  obtain ⟨r2, er2, hf⟩ := pf_b hf
  refine k_X1_isHere_X1 C B t1 dK (Nat.le_of_ble_eq_true rfl) cz er2 (Nat.le_of_ble_eq_true rfl) dX1_placed_2 ?_
  refine x_if_ne (tgt := 10) C dX1_placed_5 (by decide) (fun c3 => ?_) (fun c3 => ?_)
  · have hf := pf_f c3 hf
    refine x_aload_n C dX1_placed_10 0 rfl ?_
    obtain ⟨r4, er4, hf⟩ := pf_b hf
    refine k_X1_places_X1 C B t1 dK (Nat.le_of_ble_eq_true rfl) cz er4 (Nat.le_of_ble_eq_true rfl) dX1_placed_11 ?_
    refine x_iconst (0 : Int32) C dX1_placed_14 (by decide) ?_
    refine x_istore_n (L' := [(0, .ref x0), (1, .int x1), (2, .int (0 : Int32))]) C dX1_placed_15 (Nat.le_of_ble_eq_true rfl) [1, 2, 0] rfl ?_
    refine x_iconst (-1 : Int32) C dX1_placed_16 (by decide) ?_
    refine x_istore_n (L' := [(0, .ref x0), (1, .int x1), (2, .int (0 : Int32)), (3, .int (-1 : Int32))]) C dX1_placed_17 (Nat.le_of_ble_eq_true rfl) [1, 2, 3, 0] rfl ?_
    refine x_iconst (0 : Int32) C dX1_placed_18 (by decide) ?_
    refine x_istore (L' := [(0, .ref x0), (1, .int x1), (2, .int (0 : Int32)), (3, .int (-1 : Int32)), (4, .int (0 : Int32))]) C dX1_placed_19 (Nat.le_of_ble_eq_true rfl) [1, 2, 3, 4, 0] rfl ?_
    exact w_X1_placed_21 n g C B hr dK hQ n x0 x1 (0 : Int32) (-1 : Int32) (0 : Int32) _ hf
  · have hf := pf_t c3 hf
    refine x_iconst (-1 : Int32) C dX1_placed_8 (by decide) ?_
    obtain ⟨rfl, rfl⟩ := Prod.mk.inj (Option.some.inj hf)
    exact c_iret C hr hQ dX1_placed_9
theorem met_X1_placed {T : CT} {v : (Int32 × CD)} {n : Nat} {g : CG} {d : CD} {x0 : Nat} {x1 : Int32} {l : Launch} (hf : f_X1_placed n g x0 x1 d = some v) : Met l yX1_placed (ws_ yX1_placed cX1_placed 5 (some .int)) (rmC 6 0 0) (va_Pc [.ref x0, .int x1] (CU T g d)) (Qc T (some (.int v.1)) g v.2) 0 0 (cA T) :=
  c_met [.ref x0, .int x1] RX1 (by decide) rfl (Nat.le_of_ble_eq_true rfl) (fun K hl hR hr C B hQ => w_X1_placed_E _ _ C B hr hR hQ _ _ _ hf)
theorem k_X1_isSolvent_X1 {K : KT} {T : CT} {c0 s0 c1 s1 dk : Nat} {cc : ByteArray} {nL pc : Nat} {L : List (Nat × Value)} {rest : List Value} {g : CG} {d : CD} {v : Int32} {n : Nat} {x0 : Nat} {x1 : Nat} {x2 : Int32} {x3 : Int32} (C : Kok K cc nL RX1) (B : CB K T) (hta : ht g x0 = 1) (dK : kR K = rmC dk c1 s1) (hd : 5 + 1 ≤ dk) (hcs : c0 + 0 ≤ c1 ∧ s0 + 0 ≤ s1) (hf : f_X1_isSolvent n g d x0 x1 x2 x3 = some v) (hW : (rest.map fun v => v.category).sum ≤ 8) (dd : decode cc pc = .ok (.invokevirtual 376, 3)) (kk2 : XJ K nL (Wc K T c0 s0 g d) (pc + 3) L ((.int v) :: rest)) : XJ K nL (Wc K T c0 s0 g d) pc L (.int x3 :: .int x2 :: .ref x1 :: .ref x0 :: rest) :=
  c_callV (rest := rest) (v := (some (.int v))) [.ref x1, .int x2, .int x3] 3 rfl C B hta (by decide) (by decide) rfl dK hd (Nat.le_of_ble_eq_true rfl) hcs (lw_V q1142 q1144 qs18 q121 q1145) (by decide +kernel) (met_X1_isSolvent hf) rfl hW dd kk2
def f_X1_plot_L38 (n : Nat) (g : CG) (k14 : Nat → Int32 → Int32 → Int32 → CD → Option (Int32 × CD)) (x0 : Nat) (x1 : Int32) (x2 : Int32) (x3 : Int32) (d : CD) : Option (Int32 × CD) := if ht g x0 = 1 then (hr g x0 7).bind fun p2 => (f_X1_all g d x0).bind fun r3 => (f_X1_isSolvent n g d x0 p2 x1 (r3 &&& (x3 ^^^ (-1 : Int32)))).bind fun r4 => if r4 = 0 then (k14 x0 x1 x3 (x3 + (1 : Int32)) d) else (k14 x0 x1 x2 (x3 + (1 : Int32)) d) else none
set_option maxHeartbeats 4000000 in
theorem w_X1_plot_38 {K : KT} {T : CT} {r : Int32} {τ : CD} (n : Nat) (g : CG) (k14 : Nat → Int32 → Int32 → Int32 → CD → Option (Int32 × CD)) (C : Kok K cX1_plot 4 RX1) (B : CB K T) (hr : (kMe K).sig.returnType = (some .int)) (dK : kR K = rmC 6 0 0) (hQ : KQc K T (some (.int r)) 0 0 g τ)  (hk14 : ∀ (x0 : Nat) (x1 : Int32) (x2 : Int32) (x3 : Int32) (d : CD), k14 x0 x1 x2 x3 d = some (r, τ) → XJ K 4 (Wc K T 0 0 g d) 14 [(0, .ref x0), (1, .int x1), (2, .int x2), (3, .int x3)] []) (x0 : Nat) (x1 : Int32) (x2 : Int32) (x3 : Int32) (d : CD) (hf : f_X1_plot_L38 n g k14 x0 x1 x2 x3 d = some (r, τ)) : XJ K 4 (Wc K T 0 0 g d) 38 [(0, .ref x0), (1, .int x1), (2, .int x2), (3, .int x3)] [] := by
  unfold f_X1_plot_L38 at hf
  refine x_aload_n C dX1_plot_38 0 rfl ?_
  refine x_aload_n C dX1_plot_39 0 rfl ?_
  obtain ⟨t1, hf⟩ := pf_ch hf
  obtain ⟨p2, ep2, hf⟩ := pf_b hf
  refine cg1_7 C B t1 (flo C q624) fsm ep2 dX1_plot_40 ?_
  refine x_iload_n C dX1_plot_43 1 rfl ?_
  refine x_aload_n C dX1_plot_44 0 rfl ?_
  obtain ⟨r3, er3, hf⟩ := pf_b hf
  refine k_X1_all_X1 C B t1 dK (Nat.le_of_ble_eq_true rfl) cz er3 (Nat.le_of_ble_eq_true rfl) dX1_plot_45 ?_
  refine x_iload_n C dX1_plot_48 3 rfl ?_
  refine x_iconst (-1 : Int32) C dX1_plot_49 (by decide) ?_
  refine x_ixor C dX1_plot_50 ?_
  refine x_iand C dX1_plot_51 ?_
  obtain ⟨r4, er4, hf⟩ := pf_b hf
  refine k_X1_isSolvent_X1 C B t1 dK (Nat.le_of_ble_eq_true rfl) cz er4 (Nat.le_of_ble_eq_true rfl) dX1_plot_52 ?_
  refine x_if_eq (tgt := 61) C dX1_plot_55 (by decide) (fun c5 => ?_) (fun c5 => ?_)
  · have hf := pf_t c5 hf
    refine x_iload_n C dX1_plot_61 3 rfl ?_
    refine x_istore_n (L' := [(0, .ref x0), (1, .int x1), (2, .int x3), (3, .int x3)]) C dX1_plot_62 (Nat.le_of_ble_eq_true rfl) [1, 2, 0, 3] rfl ?_
    refine x_inc (c := (1 : Int32)) (L' := [(0, .ref x0), (1, .int x1), (2, .int x3), (3, .int (x3 + (1 : Int32)))]) C dX1_plot_63 3 rfl (by decide) (Nat.le_of_ble_eq_true rfl) [1, 2, 3, 0] rfl ?_
    refine x_goto (tgt := 14) C dX1_plot_66 (by decide) ?_
    exact hk14 x0 x1 x3 (x3 + (1 : Int32)) _ hf
  · have hf := pf_f c5 hf
    refine x_goto (tgt := 63) C dX1_plot_58 (by decide) ?_
    refine x_inc (c := (1 : Int32)) (L' := [(0, .ref x0), (1, .int x1), (2, .int x2), (3, .int (x3 + (1 : Int32)))]) C dX1_plot_63 3 rfl (by decide) (Nat.le_of_ble_eq_true rfl) [1, 2, 3, 0] rfl ?_
    refine x_goto (tgt := 14) C dX1_plot_66 (by decide) ?_
    exact hk14 x0 x1 x2 (x3 + (1 : Int32)) _ hf
def f_X1_plot_L14 (n : Nat) (g : CG) : Nat → Nat → Int32 → Int32 → Int32 → CD → Option (Int32 × CD)
  | 0, _, _, _, _, _ => none
  | m + 1, x0, x1, x2, x3, d => if ht g x0 = 1 then (f_X1_all g d x0).bind fun r2 => if r2 < x3 then (if x2 = (-1 : Int32) then (some ((-1 : Int32), d)) else (ev (wi d x0 31 (1 : Int32)) fun s5 => ev (wi s5 x0 30 x2) fun s6 => some (f_J10_bitCount x2, s6))) else (if x2 = (-1 : Int32) then (f_X1_plot_L38 n g (f_X1_plot_L14 n g m) x0 x1 x2 x3 d) else (if (f_J10_bitCount x2) ≤ (f_J10_bitCount x3) then (f_X1_plot_L14 n g m x0 x1 x2 (x3 + (1 : Int32)) d) else (f_X1_plot_L38 n g (f_X1_plot_L14 n g m) x0 x1 x2 x3 d))) else none
set_option maxHeartbeats 4000000 in
theorem w_X1_plot_14 {K : KT} {T : CT} {r : Int32} {τ : CD} (n : Nat) (g : CG) (C : Kok K cX1_plot 4 RX1) (B : CB K T) (hr : (kMe K).sig.returnType = (some .int)) (dK : kR K = rmC 6 0 0) (hQ : KQc K T (some (.int r)) 0 0 g τ) : ∀ (m : Nat) (x0 : Nat) (x1 : Int32) (x2 : Int32) (x3 : Int32) (d : CD) (hf : f_X1_plot_L14 n g m x0 x1 x2 x3 d = some (r, τ)), XJ K 4 (Wc K T 0 0 g d) 14 [(0, .ref x0), (1, .int x1), (2, .int x2), (3, .int x3)] [] := by
  intro m
  induction m with
  | zero => intro x0 x1 x2 x3 d hf; cases hf
  | succ m ih =>
    intro x0 x1 x2 x3 d hf
    rw [f_X1_plot_L14] at hf
    refine x_iload_n C dX1_plot_14 3 rfl ?_
    refine x_aload_n C dX1_plot_15 0 rfl ?_
    obtain ⟨t1, hf⟩ := pf_ch hf
    obtain ⟨r2, er2, hf⟩ := pf_b hf
    refine k_X1_all_X1 C B t1 dK (Nat.le_of_ble_eq_true rfl) cz er2 (Nat.le_of_ble_eq_true rfl) dX1_plot_16 ?_
    refine x_icmp_gt (tgt := 69) C dX1_plot_19 (by decide) (fun c3 => ?_) (fun c3 => ?_)
    · have hf := pf_t c3 hf
      refine x_iload_n C dX1_plot_69 2 rfl ?_
      refine x_iconst (-1 : Int32) C dX1_plot_70 (by decide) ?_
      refine x_icmp_ne (tgt := 76) C dX1_plot_71 (by decide) (fun c4 => ?_) (fun c4 => ?_)
      · have hf := pf_f c4 hf
        refine x_aload_n C dX1_plot_76 0 rfl ?_
        refine x_iconst (1 : Int32) C dX1_plot_77 (by decide) ?_
        refine cp1_31 C B t1 (flo C q650) fsm (Or.inr rfl) dX1_plot_78 ?_
        obtain ⟨s5, es5, hf⟩ := pf_e hf
        refine c_ren es5 ?_
        refine x_aload_n C dX1_plot_81 0 rfl ?_
        refine x_iload_n C dX1_plot_82 2 rfl ?_
        refine cp1_30 C B t1 (flo C q649) fsm dX1_plot_83 ?_
        obtain ⟨s6, es6, hf⟩ := pf_e hf
        refine c_ren es6 ?_
        refine x_iload_n C dX1_plot_86 2 rfl ?_
        refine k_J10_bitCount_X1 C B dK (Nat.le_of_ble_eq_true rfl) cz rfl (Nat.le_of_ble_eq_true rfl) dX1_plot_87 ?_
        obtain ⟨rfl, rfl⟩ := Prod.mk.inj (Option.some.inj hf)
        exact c_iret C hr hQ dX1_plot_90
      · have hf := pf_t c4 hf
        refine x_iconst (-1 : Int32) C dX1_plot_74 (by decide) ?_
        obtain ⟨rfl, rfl⟩ := Prod.mk.inj (Option.some.inj hf)
        exact c_iret C hr hQ dX1_plot_75
    · have hf := pf_f c3 hf
      refine x_iload_n C dX1_plot_22 2 rfl ?_
      refine x_iconst (-1 : Int32) C dX1_plot_23 (by decide) ?_
      refine x_icmp_eq (tgt := 38) C dX1_plot_24 (by decide) (fun c7 => ?_) (fun c7 => ?_)
      · have hf := pf_t c7 hf
        exact w_X1_plot_38 n g _ C B hr dK hQ ih x0 x1 x2 x3 _ hf
      · have hf := pf_f c7 hf
        refine x_iload_n C dX1_plot_27 3 rfl ?_
        refine k_J10_bitCount_X1 C B dK (Nat.le_of_ble_eq_true rfl) cz rfl (Nat.le_of_ble_eq_true rfl) dX1_plot_28 ?_
        refine x_iload_n C dX1_plot_31 2 rfl ?_
        refine k_J10_bitCount_X1 C B dK (Nat.le_of_ble_eq_true rfl) cz rfl (Nat.le_of_ble_eq_true rfl) dX1_plot_32 ?_
        refine x_icmp_ge (tgt := 63) C dX1_plot_35 (by decide) (fun c8 => ?_) (fun c8 => ?_)
        · have hf := pf_t c8 hf
          refine x_inc (c := (1 : Int32)) (L' := [(0, .ref x0), (1, .int x1), (2, .int x2), (3, .int (x3 + (1 : Int32)))]) C dX1_plot_63 3 rfl (by decide) (Nat.le_of_ble_eq_true rfl) [1, 2, 3, 0] rfl ?_
          refine x_goto (tgt := 14) C dX1_plot_66 (by decide) ?_
          exact ih x0 x1 x2 (x3 + (1 : Int32)) _ hf
        · have hf := pf_f c8 hf
          exact w_X1_plot_38 n g _ C B hr dK hQ ih x0 x1 x2 x3 _ hf
def f_X1_plot (n : Nat) (g : CG) (x0 : Nat) (x1 : Int32) (d : CD) : Option (Int32 × CD) := if ht g x0 = 1 then (f_X1_isHere g d x0 x1).bind fun r2 => if r2 = 0 then (some ((-1 : Int32), d)) else (f_X1_plot_L14 n g n x0 x1 (-1 : Int32) (0 : Int32) d) else none
set_option maxHeartbeats 4000000 in
theorem w_X1_plot_E {K : KT} {T : CT} {r : Int32} {τ : CD} (n : Nat) (g : CG) (C : Kok K cX1_plot 4 RX1) (B : CB K T) (hr : (kMe K).sig.returnType = (some .int)) (dK : kR K = rmC 6 0 0) (hQ : KQc K T (some (.int r)) 0 0 g τ) (x0 : Nat) (x1 : Int32) (d : CD) (hf : f_X1_plot n g x0 x1 d = some (r, τ)) : XJ K 4 (Wc K T 0 0 g d) 0 [(0, .ref x0), (1, .int x1)] [] := by
  unfold f_X1_plot at hf
  refine x_aload_n C dX1_plot_0 0 rfl ?_
  refine x_iload_n C dX1_plot_1 1 rfl ?_
  obtain ⟨t1, hf⟩ := pf_ch hf
  obtain ⟨r2, er2, hf⟩ := pf_b hf
  refine k_X1_isHere_X1 C B t1 dK (Nat.le_of_ble_eq_true rfl) cz er2 (Nat.le_of_ble_eq_true rfl) dX1_plot_2 ?_
  refine x_if_ne (tgt := 10) C dX1_plot_5 (by decide) (fun c3 => ?_) (fun c3 => ?_)
  · have hf := pf_f c3 hf
    refine x_iconst (-1 : Int32) C dX1_plot_10 (by decide) ?_
    refine x_istore_n (L' := [(0, .ref x0), (1, .int x1), (2, .int (-1 : Int32))]) C dX1_plot_11 (Nat.le_of_ble_eq_true rfl) [1, 2, 0] rfl ?_
    refine x_iconst (0 : Int32) C dX1_plot_12 (by decide) ?_
    refine x_istore_n (L' := [(0, .ref x0), (1, .int x1), (2, .int (-1 : Int32)), (3, .int (0 : Int32))]) C dX1_plot_13 (Nat.le_of_ble_eq_true rfl) [1, 2, 3, 0] rfl ?_
    exact w_X1_plot_14 n g C B hr dK hQ n x0 x1 (-1 : Int32) (0 : Int32) _ hf
  · have hf := pf_t c3 hf
    refine x_iconst (-1 : Int32) C dX1_plot_8 (by decide) ?_
    obtain ⟨rfl, rfl⟩ := Prod.mk.inj (Option.some.inj hf)
    exact c_iret C hr hQ dX1_plot_9
theorem met_X1_plot {T : CT} {v : (Int32 × CD)} {n : Nat} {g : CG} {d : CD} {x0 : Nat} {x1 : Int32} {l : Launch} (hf : f_X1_plot n g x0 x1 d = some v) : Met l yX1_plot (ws_ yX1_plot cX1_plot 4 (some .int)) (rmC 6 0 0) (va_Pc [.ref x0, .int x1] (CU T g d)) (Qc T (some (.int v.1)) g v.2) 0 0 (cA T) :=
  c_met [.ref x0, .int x1] RX1 (by decide) rfl (Nat.le_of_ble_eq_true rfl) (fun K hl hR hr C B hQ => w_X1_plot_E _ _ C B hr hR hQ _ _ _ hf)
def f_X1_plotters (g : CG) (d : CD) (x0 : Nat) : Option Int32 := if ht g x0 = 1 then if (hi d x0 31) = 0 then (some (-1 : Int32)) else (some (hi d x0 30)) else none
set_option maxHeartbeats 4000000 in
theorem w_X1_plotters_E {K : KT} {T : CT} {r : Int32} (g : CG) (d : CD) (C : Kok K cX1_plotters 1 RX1) (B : CB K T) (hr : (kMe K).sig.returnType = (some .int)) (dK : kR K = rmC 2 0 0) (hQ : KQc K T (some (.int r)) 0 0 g d) (x0 : Nat) (hf : f_X1_plotters g d x0 = some r) : XJ K 1 (Wc K T 0 0 g d) 0 [(0, .ref x0)] [] := by
  unfold f_X1_plotters at hf
  refine x_aload_n C dX1_plotters_0 0 rfl ?_
  obtain ⟨t1, hf⟩ := pf_ch hf
  refine cg1_31 C B t1 (flo C q650) fsm dX1_plotters_1 ?_
  refine x_if_eq (tgt := 14) C dX1_plotters_4 (by decide) (fun c2 => ?_) (fun c2 => ?_)
  · have hf := pf_t c2 hf
    refine x_iconst (-1 : Int32) C dX1_plotters_14 (by decide) ?_
    obtain rfl := Option.some.inj hf
    exact c_iret C hr hQ dX1_plotters_15
  · have hf := pf_f c2 hf
    refine x_aload_n C dX1_plotters_7 0 rfl ?_
    refine cg1_30 C B t1 (flo C q649) fsm dX1_plotters_8 ?_
    refine x_goto (tgt := 15) C dX1_plotters_11 (by decide) ?_
    obtain rfl := Option.some.inj hf
    exact c_iret C hr hQ dX1_plotters_15
theorem met_X1_plotters {T : CT} {v : Int32} {g : CG} {d : CD} {x0 : Nat} {l : Launch} (hf : f_X1_plotters g d x0 = some v) : Met l yX1_plotters (ws_ yX1_plotters cX1_plotters 1 (some .int)) (rmC 2 0 0) (va_Pc [.ref x0] (CU T g d)) (Qc T (some (.int v)) g d) 0 0 (cA T) :=
  c_met [.ref x0] RX1 (by decide) rfl (Nat.le_of_ble_eq_true rfl) (fun K hl hR hr C B hQ => w_X1_plotters_E _ _ C B hr hR hQ _ hf)
def f_X1_put_2 (g : CG) (x0 : Nat) (x1 : Int32) (d : CD) : Option CD := if ht g x0 = 1 then (hr g x0 34).bind fun p2 => if ht g p2 = 103 then if inb (hi d x0 35) (hn g p2) = true then ev (wi d p2 (Int32.toNatClampNeg (hi d x0 35)) (vp_nar .byte (Int8.toInt32 (Int32.toInt8 x1)))) fun s5 => ev (wi s5 x0 35 ((hi s5 x0 35) + (1 : Int32))) fun s6 => some s6 else none else none else none
set_option maxHeartbeats 4000000 in
theorem w_X1_put_2_E {K : KT} {T : CT} {τ : CD} (g : CG) (C : Kok K cX1_put_2 2 RX1) (B : CB K T) (hr : (kMe K).sig.returnType = none) (dK : kR K = rmC 2 0 0) (hQ : KQc K T none 0 0 g τ) (x0 : Nat) (x1 : Int32) (d : CD) (hf : f_X1_put_2 g x0 x1 d = some τ) : XJ K 2 (Wc K T 0 0 g d) 0 [(0, .ref x0), (1, .int x1)] [] := by
  unfold f_X1_put_2 at hf
  refine x_aload_n C dX1_put_2_0 0 rfl ?_
  obtain ⟨t1, hf⟩ := pf_ch hf
  obtain ⟨p2, ep2, hf⟩ := pf_b hf
  refine cg1_34 C B t1 (flo C q653) fsm ep2 dX1_put_2_1 ?_
  refine x_aload_n C dX1_put_2_4 0 rfl ?_
  refine cg1_35 C B t1 (flo C q654) fsm dX1_put_2_5 ?_
  refine x_iload_n C dX1_put_2_8 1 rfl ?_
  refine x_i2b C dX1_put_2_9 ?_
  obtain ⟨t3, hf⟩ := pf_ch hf
  obtain ⟨h4, hf⟩ := pf_in hf
  refine ca_bst C B t3 h4 dX1_put_2_10 ?_
  obtain ⟨s5, es5, hf⟩ := pf_e hf
  refine c_ren es5 ?_
  refine x_aload_n C dX1_put_2_11 0 rfl ?_
  refine x_dup C dX1_put_2_12 rfl ?_
  refine cg1_35 C B t1 (flo C q654) fsm dX1_put_2_13 ?_
  refine x_iconst (1 : Int32) C dX1_put_2_16 (by decide) ?_
  refine x_iadd C dX1_put_2_17 ?_
  refine cp1_35 C B t1 (flo C q654) fsm dX1_put_2_18 ?_
  obtain ⟨s6, es6, hf⟩ := pf_e hf
  refine c_ren es6 ?_
  obtain rfl := Option.some.inj hf
  exact c_vret C hr hQ dX1_put_2_21
theorem met_X1_put_2 {T : CT} {v : CD} {g : CG} {d : CD} {x0 : Nat} {x1 : Int32} {l : Launch} (hf : f_X1_put_2 g x0 x1 d = some v) : Met l yX1_put_2 (ws_ yX1_put_2 cX1_put_2 2 none) (rmC 2 0 0) (va_Pc [.ref x0, .int x1] (CU T g d)) (Qc T none g v) 0 0 (cA T) :=
  c_met [.ref x0, .int x1] RX1 (by decide) rfl (Nat.le_of_ble_eq_true rfl) (fun K hl hR hr C B hQ => w_X1_put_2_E _ C B hr hR hQ _ _ _ hf)
theorem k_X1_put_2_X1 {K : KT} {T : CT} {c0 s0 c1 s1 dk : Nat} {cc : ByteArray} {nL pc : Nat} {L : List (Nat × Value)} {rest : List Value} {g : CG} {d : CD} {v : CD} {x0 : Nat} {x1 : Int32} (C : Kok K cc nL RX1) (B : CB K T) (hta : ht g x0 = 1) (dK : kR K = rmC dk c1 s1) (hd : 2 + 1 ≤ dk) (hcs : c0 + 0 ≤ c1 ∧ s0 + 0 ≤ s1) (hf : f_X1_put_2 g x0 x1 d = some v) (hW : (rest.map fun v => v.category).sum ≤ 8) (dd : decode cc pc = .ok (.invokevirtual 489, 3)) (kk2 : XJ K nL (Wc K T c0 s0 g v) (pc + 3) L (rest)) : XJ K nL (Wc K T c0 s0 g d) pc L (.int x1 :: .ref x0 :: rest) :=
  c_callV (rest := rest) (v := none) [.int x1] 1 rfl C B hta (by decide) (by decide) rfl dK hd (Nat.le_of_ble_eq_true rfl) hcs (lw_V q1304 q1306 qs33 q121 q1307) (by decide +kernel) (met_X1_put_2 hf) rfl hW dd kk2
def f_X1_put_L3 (n : Nat) (g : CG) : Nat → Nat → Int64 → Int32 → CD → Option CD
  | 0, _, _, _, _ => none
  | m + 1, x0, x1, x3, d => if x3 < 0 then (some d) else (if (lg_cmp ((j_lshr x1 x3) &&& (255 : Int64)) (0 : Int64)) = 0 then (f_X1_put_L3 n g m x0 x1 (x3 + (-8 : Int32)) d) else (if ht g x0 = 1 then (f_X1_put_2 g x0 (Int64.toInt32 ((j_lshr x1 x3) &&& (255 : Int64))) d).bind fun r4 => f_X1_put_L3 n g m x0 x1 (x3 + (-8 : Int32)) r4 else none))
set_option maxHeartbeats 4000000 in
theorem w_X1_put_3 {K : KT} {T : CT} {τ : CD} (n : Nat) (g : CG) (C : Kok K cX1_put 4 RX1) (B : CB K T) (hr : (kMe K).sig.returnType = none) (dK : kR K = rmC 3 0 0) (hQ : KQc K T none 0 0 g τ) : ∀ (m : Nat) (x0 : Nat) (x1 : Int64) (x3 : Int32) (d : CD) (hf : f_X1_put_L3 n g m x0 x1 x3 d = some τ), XJ K 4 (Wc K T 0 0 g d) 3 [(0, .ref x0), (1, .long x1), (3, .int x3)] [] := by
  intro m
  induction m with
  | zero => intro x0 x1 x3 d hf; cases hf
  | succ m ih =>
    intro x0 x1 x3 d hf
    rw [f_X1_put_L3] at hf
    refine x_iload_n C dX1_put_3 2 rfl ?_
    refine x_if_lt (tgt := 37) C dX1_put_4 (by decide) (fun c1 => ?_) (fun c1 => ?_)
    · have hf := pf_t c1 hf
      obtain rfl := Option.some.inj hf
      exact c_vret C hr hQ dX1_put_37
    · have hf := pf_f c1 hf
      refine x_lload_n C dX1_put_7 1 rfl ?_
      refine x_iload_n C dX1_put_8 2 rfl ?_
      refine x_lshr C dX1_put_9 ?_
      refine x_ldc2 C q1303 dX1_put_10 ?_
      refine x_land C dX1_put_13 ?_
      refine x_lconst (0 : Int64) C dX1_put_14 (by decide) ?_
      refine x_lcmp C dX1_put_15 ?_
      refine x_if_eq (tgt := 31) C dX1_put_16 (by decide) (fun c2 => ?_) (fun c2 => ?_)
      · have hf := pf_t c2 hf
        refine x_inc (c := (-8 : Int32)) (L' := [(0, .ref x0), (1, .long x1), (3, .int (x3 + (-8 : Int32)))]) C dX1_put_31 2 rfl (by decide) (Nat.le_of_ble_eq_true rfl) [1, 2, 0] rfl ?_
        refine x_goto (tgt := 3) C dX1_put_34 (by decide) ?_
        exact ih x0 x1 (x3 + (-8 : Int32)) _ hf
      · have hf := pf_f c2 hf
        refine x_aload_n C dX1_put_19 0 rfl ?_
        refine x_lload_n C dX1_put_20 1 rfl ?_
        refine x_iload_n C dX1_put_21 2 rfl ?_
        refine x_lshr C dX1_put_22 ?_
        refine x_ldc2 C q1303 dX1_put_23 ?_
        refine x_land C dX1_put_26 ?_
        refine x_l2i C dX1_put_27 ?_
        obtain ⟨t3, hf⟩ := pf_ch hf
        obtain ⟨r4, er4, hf⟩ := pf_b hf
        refine k_X1_put_2_X1 C B t3 dK (Nat.le_of_ble_eq_true rfl) cz er4 (Nat.le_of_ble_eq_true rfl) dX1_put_28 ?_
        refine x_inc (c := (-8 : Int32)) (L' := [(0, .ref x0), (1, .long x1), (3, .int (x3 + (-8 : Int32)))]) C dX1_put_31 2 rfl (by decide) (Nat.le_of_ble_eq_true rfl) [1, 2, 0] rfl ?_
        refine x_goto (tgt := 3) C dX1_put_34 (by decide) ?_
        exact ih x0 x1 (x3 + (-8 : Int32)) _ hf
def f_X1_put (n : Nat) (g : CG) (x0 : Nat) (x1 : Int64) (d : CD) : Option CD := f_X1_put_L3 n g n x0 x1 (56 : Int32) d
set_option maxHeartbeats 4000000 in
theorem w_X1_put_E {K : KT} {T : CT} {τ : CD} (n : Nat) (g : CG) (C : Kok K cX1_put 4 RX1) (B : CB K T) (hr : (kMe K).sig.returnType = none) (dK : kR K = rmC 3 0 0) (hQ : KQc K T none 0 0 g τ) (x0 : Nat) (x1 : Int64) (d : CD) (hf : f_X1_put n g x0 x1 d = some τ) : XJ K 4 (Wc K T 0 0 g d) 0 [(0, .ref x0), (1, .long x1)] [] := by
  unfold f_X1_put at hf
  refine x_bipush (56 : Int32) C dX1_put_0 (by decide) ?_
  refine x_istore_n (L' := [(0, .ref x0), (1, .long x1), (3, .int (56 : Int32))]) C dX1_put_2 (Nat.le_of_ble_eq_true rfl) [1, 2, 0] rfl ?_
  exact w_X1_put_3 n g C B hr dK hQ n x0 x1 (56 : Int32) _ hf
theorem met_X1_put {T : CT} {v : CD} {n : Nat} {g : CG} {d : CD} {x0 : Nat} {x1 : Int64} {l : Launch} (hf : f_X1_put n g x0 x1 d = some v) : Met l yX1_put (ws_ yX1_put cX1_put 4 none) (rmC 3 0 0) (va_Pc [.ref x0, .long x1] (CU T g d)) (Qc T none g v) 0 0 (cA T) :=
  c_met [.ref x0, .long x1] RX1 (by decide) rfl (Nat.le_of_ble_eq_true rfl) (fun K hl hR hr C B hQ => w_X1_put_E _ _ C B hr hR hQ _ _ _ hf)
def f_X1_put_3_L2 (n : Nat) (g : CG) : Nat → Nat → Nat → Int32 → CD → Option CD
  | 0, _, _, _, _ => none
  | m + 1, x0, x1, x2, d => if ht g x1 = 90 then if (Int32.ofNat (hn g x1)) ≤ x2 then (some d) else (if inb x2 (hn g x1) = true then if hn g x1 < 2147483648 then if ht g x0 = 1 then (f_X1_put_2 g x0 (j_chr (hi d x1 (Int32.toNatClampNeg x2))) d).bind fun r6 => f_X1_put_3_L2 n g m x0 x1 (x2 + (1 : Int32)) r6 else none else none else none) else none
set_option maxHeartbeats 4000000 in
theorem w_X1_put_3_2 {K : KT} {T : CT} {τ : CD} (n : Nat) (g : CG) (C : Kok K cX1_put_3 3 RX1) (B : CB K T) (hr : (kMe K).sig.returnType = none) (dK : kR K = rmC 6 0 0) (hQ : KQc K T none 0 0 g τ) : ∀ (m : Nat) (x0 : Nat) (x1 : Nat) (x2 : Int32) (d : CD) (hf : f_X1_put_3_L2 n g m x0 x1 x2 d = some τ), XJ K 3 (Wc K T 0 0 g d) 2 [(0, .ref x0), (1, .ref x1), (2, .int x2)] [] := by
  intro m
  induction m with
  | zero => intro x0 x1 x2 d hf; cases hf
  | succ m ih =>
    intro x0 x1 x2 d hf
    rw [f_X1_put_3_L2] at hf
    refine x_iload_n C dX1_put_3_2 2 rfl ?_
    refine x_aload_n C dX1_put_3_3 1 rfl ?_
    obtain ⟨t1, hf⟩ := pf_ch hf
    refine c_slen C B t1 q1313 dK (Nat.le_of_ble_eq_true rfl) cz (Nat.le_of_ble_eq_true rfl) dX1_put_3_4 ?_
    refine x_icmp_ge (tgt := 25) C dX1_put_3_7 (by decide) (fun c2 => ?_) (fun c2 => ?_)
    · have hf := pf_t c2 hf
      obtain rfl := Option.some.inj hf
      exact c_vret C hr hQ dX1_put_3_25
    · have hf := pf_f c2 hf
      refine x_aload_n C dX1_put_3_10 0 rfl ?_
      refine x_aload_n C dX1_put_3_11 1 rfl ?_
      refine x_iload_n C dX1_put_3_12 2 rfl ?_
      obtain ⟨h3, hf⟩ := pf_in hf
      obtain ⟨h4, hf⟩ := pf_ch hf
      refine c_schar C B t1 h3 h4 q1314 dK (Nat.le_of_ble_eq_true rfl) cz (Nat.le_of_ble_eq_true rfl) dX1_put_3_13 ?_
      obtain ⟨t5, hf⟩ := pf_ch hf
      obtain ⟨r6, er6, hf⟩ := pf_b hf
      refine k_X1_put_2_X1 C B t5 dK (Nat.le_of_ble_eq_true rfl) cz er6 (Nat.le_of_ble_eq_true rfl) dX1_put_3_16 ?_
      refine x_inc (c := (1 : Int32)) (L' := [(0, .ref x0), (1, .ref x1), (2, .int (x2 + (1 : Int32)))]) C dX1_put_3_19 2 rfl (by decide) (Nat.le_of_ble_eq_true rfl) [1, 2, 0] rfl ?_
      refine x_goto (tgt := 2) C dX1_put_3_22 (by decide) ?_
      exact ih x0 x1 (x2 + (1 : Int32)) _ hf
def f_X1_put_3 (n : Nat) (g : CG) (x0 : Nat) (x1 : Nat) (d : CD) : Option CD := f_X1_put_3_L2 n g n x0 x1 (0 : Int32) d
set_option maxHeartbeats 4000000 in
theorem w_X1_put_3_E {K : KT} {T : CT} {τ : CD} (n : Nat) (g : CG) (C : Kok K cX1_put_3 3 RX1) (B : CB K T) (hr : (kMe K).sig.returnType = none) (dK : kR K = rmC 6 0 0) (hQ : KQc K T none 0 0 g τ) (x0 : Nat) (x1 : Nat) (d : CD) (hf : f_X1_put_3 n g x0 x1 d = some τ) : XJ K 3 (Wc K T 0 0 g d) 0 [(0, .ref x0), (1, .ref x1)] [] := by
  unfold f_X1_put_3 at hf
  refine x_iconst (0 : Int32) C dX1_put_3_0 (by decide) ?_
  refine x_istore_n (L' := [(0, .ref x0), (1, .ref x1), (2, .int (0 : Int32))]) C dX1_put_3_1 (Nat.le_of_ble_eq_true rfl) [1, 2, 0] rfl ?_
  exact w_X1_put_3_2 n g C B hr dK hQ n x0 x1 (0 : Int32) _ hf
theorem met_X1_put_3 {T : CT} {v : CD} {n : Nat} {g : CG} {d : CD} {x0 : Nat} {x1 : Nat} {l : Launch} (hf : f_X1_put_3 n g x0 x1 d = some v) : Met l yX1_put_3 (ws_ yX1_put_3 cX1_put_3 3 none) (rmC 6 0 0) (va_Pc [.ref x0, .ref x1] (CU T g d)) (Qc T none g v) 0 0 (cA T) :=
  c_met [.ref x0, .ref x1] RX1 (by decide) rfl (Nat.le_of_ble_eq_true rfl) (fun K hl hR hr C B hQ => w_X1_put_3_E _ _ C B hr hR hQ _ _ _ hf)
def f_X1_route (n : Nat) (g : CG) (x0 : Nat) (x1 : Int32) (x2 : Int32) (d : CD) : Option (Int32 × CD) := if ht g x0 = 1 then (f_X1_isSquare g d x0 x1).bind fun r2 => if r2 = 0 then (some ((-1 : Int32), d)) else (if (f_X1_isIn x2 (1 : Int32) (8 : Int32)) = 0 then (some ((-1 : Int32), d)) else ((hr g x0 6).bind fun p5 => if ht g p5 = 3 then (hr g p5 9).bind fun p7 => (hr g x0 17).bind fun p8 => if ht g p7 = 100 then if ht g p8 = 100 then if cpok (0 : Int32) (0 : Int32) (8 : Int32) (hn g p7) (hn g p8) = true then ev (wa d p8 (va_cpy (hi d p7) (hi d p8) (Int32.toNatClampNeg (0 : Int32)) (Int32.toNatClampNeg (0 : Int32)) (Int32.toNatClampNeg (8 : Int32)))) fun s12 => (f_X1_routeFrom n g x0 x1 x2 s12).bind fun r13 => ev (wi r13.2 x0 21 (hi r13.2 x0 20)) fun s14 => (hr g x0 16).bind fun p15 => (hr g x0 23).bind fun p16 => if ht g p15 = 100 then if ht g p16 = 100 then if cpok (0 : Int32) (0 : Int32) (8 : Int32) (hn g p15) (hn g p16) = true then ev (wa s14 p16 (va_cpy (hi s14 p15) (hi s14 p16) (Int32.toNatClampNeg (0 : Int32)) (Int32.toNatClampNeg (0 : Int32)) (Int32.toNatClampNeg (8 : Int32)))) fun s20 => some (r13.1, s20) else none else none else none else none else none else none else none)) else none
set_option maxHeartbeats 4000000 in
theorem w_X1_route_E {K : KT} {T : CT} {r : Int32} {τ : CD} (n : Nat) (g : CG) (C : Kok K cX1_route 4 RX1) (B : CB K T) (hr : (kMe K).sig.returnType = (some .int)) (dK : kR K = rmC 70 0 0) (hQ : KQc K T (some (.int r)) 0 0 g τ) (x0 : Nat) (x1 : Int32) (x2 : Int32) (d : CD) (hf : f_X1_route n g x0 x1 x2 d = some (r, τ)) : XJ K 4 (Wc K T 0 0 g d) 0 [(0, .ref x0), (1, .int x1), (2, .int x2)] [] := by
  unfold f_X1_route at hf
  refine x_aload_n C dX1_route_0 0 rfl ?_
  refine x_iload_n C dX1_route_1 1 rfl ?_
  obtain ⟨t1, hf⟩ := pf_ch hf
  obtain ⟨r2, er2, hf⟩ := pf_b hf
  refine k_X1_isSquare_X1 C B t1 dK (Nat.le_of_ble_eq_true rfl) cz er2 (Nat.le_of_ble_eq_true rfl) dX1_route_2 ?_
  refine x_if_eq (tgt := 18) C dX1_route_5 (by decide) (fun c3 => ?_) (fun c3 => ?_)
  · have hf := pf_t c3 hf
    refine x_iconst (-1 : Int32) C dX1_route_18 (by decide) ?_
    obtain ⟨rfl, rfl⟩ := Prod.mk.inj (Option.some.inj hf)
    exact c_iret C hr hQ dX1_route_19
  · have hf := pf_f c3 hf
    refine x_iload_n C dX1_route_8 2 rfl ?_
    refine x_iconst (1 : Int32) C dX1_route_9 (by decide) ?_
    refine x_bipush (8 : Int32) C dX1_route_10 (by decide) ?_
    refine k_X1_isIn_X1 C B dK (Nat.le_of_ble_eq_true rfl) cz rfl (Nat.le_of_ble_eq_true rfl) dX1_route_12 ?_
    refine x_if_ne (tgt := 20) C dX1_route_15 (by decide) (fun c4 => ?_) (fun c4 => ?_)
    · have hf := pf_f c4 hf
      refine x_aload_n C dX1_route_20 0 rfl ?_
      obtain ⟨p5, ep5, hf⟩ := pf_b hf
      refine cg1_6 C B t1 (flo C q621) fsm ep5 dX1_route_21 ?_
      obtain ⟨t6, hf⟩ := pf_ch hf
      obtain ⟨p7, ep7, hf⟩ := pf_b hf
      refine cg3_9 C B t6 (fln B q300) fsm ep7 dX1_route_24 ?_
      refine x_iconst (0 : Int32) C dX1_route_27 (by decide) ?_
      refine x_aload_n C dX1_route_28 0 rfl ?_
      obtain ⟨p8, ep8, hf⟩ := pf_b hf
      refine cg1_17 C B t1 (flo C q636) fsm ep8 dX1_route_29 ?_
      refine x_iconst (0 : Int32) C dX1_route_32 (by decide) ?_
      refine x_bipush (8 : Int32) C dX1_route_33 (by decide) ?_
      obtain ⟨t9, hf⟩ := pf_ch hf
      obtain ⟨t10, hf⟩ := pf_ch hf
      obtain ⟨h11, hf⟩ := pf_ch hf
      refine c_copyi C B q1055 q1037 q1036 q140 t9 t10 h11 dK (Nat.le_of_ble_eq_true rfl) (Nat.le_of_ble_eq_true rfl) dX1_route_35 ?_
      obtain ⟨s12, es12, hf⟩ := pf_e hf
      refine c_ren es12 ?_
      refine x_aload_n C dX1_route_38 0 rfl ?_
      refine x_iload_n C dX1_route_39 1 rfl ?_
      refine x_iload_n C dX1_route_40 2 rfl ?_
      obtain ⟨r13, er13, hf⟩ := pf_b hf
      refine k_X1_routeFrom_X1 C B t1 dK (Nat.le_of_ble_eq_true rfl) cz er13 (Nat.le_of_ble_eq_true rfl) dX1_route_41 ?_
      refine x_istore_n (L' := [(0, .ref x0), (3, .int r13.1)]) C dX1_route_44 (Nat.le_of_ble_eq_true rfl) [1, 0] rfl ?_
      refine x_aload_n C dX1_route_45 0 rfl ?_
      refine x_aload_n C dX1_route_46 0 rfl ?_
      refine cg1_20 C B t1 (flo C q639) fsm dX1_route_47 ?_
      refine cp1_21 C B t1 (flo C q640) fsm dX1_route_50 ?_
      obtain ⟨s14, es14, hf⟩ := pf_e hf
      refine c_ren es14 ?_
      refine x_aload_n C dX1_route_53 0 rfl ?_
      obtain ⟨p15, ep15, hf⟩ := pf_b hf
      refine cg1_16 C B t1 (flo C q635) fsm ep15 dX1_route_54 ?_
      refine x_iconst (0 : Int32) C dX1_route_57 (by decide) ?_
      refine x_aload_n C dX1_route_58 0 rfl ?_
      obtain ⟨p16, ep16, hf⟩ := pf_b hf
      refine cg1_23 C B t1 (flo C q642) fsm ep16 dX1_route_59 ?_
      refine x_iconst (0 : Int32) C dX1_route_62 (by decide) ?_
      refine x_bipush (8 : Int32) C dX1_route_63 (by decide) ?_
      obtain ⟨t17, hf⟩ := pf_ch hf
      obtain ⟨t18, hf⟩ := pf_ch hf
      obtain ⟨h19, hf⟩ := pf_ch hf
      refine c_copyi C B q1055 q1037 q1036 q140 t17 t18 h19 dK (Nat.le_of_ble_eq_true rfl) (Nat.le_of_ble_eq_true rfl) dX1_route_65 ?_
      obtain ⟨s20, es20, hf⟩ := pf_e hf
      refine c_ren es20 ?_
      refine x_iload_n C dX1_route_68 1 rfl ?_
      obtain ⟨rfl, rfl⟩ := Prod.mk.inj (Option.some.inj hf)
      exact c_iret C hr hQ dX1_route_69
    · have hf := pf_t c4 hf
      refine x_iconst (-1 : Int32) C dX1_route_18 (by decide) ?_
      obtain ⟨rfl, rfl⟩ := Prod.mk.inj (Option.some.inj hf)
      exact c_iret C hr hQ dX1_route_19
theorem met_X1_route {T : CT} {v : (Int32 × CD)} {n : Nat} {g : CG} {d : CD} {x0 : Nat} {x1 : Int32} {x2 : Int32} {l : Launch} (hf : f_X1_route n g x0 x1 x2 d = some v) : Met l yX1_route (ws_ yX1_route cX1_route 4 (some .int)) (rmC 70 0 0) (va_Pc [.ref x0, .int x1, .int x2] (CU T g d)) (Qc T (some (.int v.1)) g v.2) 0 0 (cA T) :=
  c_met [.ref x0, .int x1, .int x2] RX1 (by decide) rfl (Nat.le_of_ble_eq_true rfl) (fun K hl hR hr C B hQ => w_X1_route_E _ _ C B hr hR hQ _ _ _ _ hf)
def f_X1_routeAt (g : CG) (d : CD) (x0 : Nat) (x1 : Int32) : Option Int32 := if ht g x0 = 1 then if (f_X1_isIn x1 (0 : Int32) ((hi d x0 21) - (1 : Int32))) = 0 then (some (-1 : Int32)) else ((hr g x0 23).bind fun p3 => if ht g p3 = 100 then if inb x1 (hn g p3) = true then some (hi d p3 (Int32.toNatClampNeg x1)) else none else none) else none
set_option maxHeartbeats 4000000 in
theorem w_X1_routeAt_E {K : KT} {T : CT} {r : Int32} (g : CG) (d : CD) (C : Kok K cX1_routeAt 2 RX1) (B : CB K T) (hr : (kMe K).sig.returnType = (some .int)) (dK : kR K = rmC 3 0 0) (hQ : KQc K T (some (.int r)) 0 0 g d) (x0 : Nat) (x1 : Int32) (hf : f_X1_routeAt g d x0 x1 = some r) : XJ K 2 (Wc K T 0 0 g d) 0 [(0, .ref x0), (1, .int x1)] [] := by
  unfold f_X1_routeAt at hf
  refine x_iload_n C dX1_routeAt_0 1 rfl ?_
  refine x_iconst (0 : Int32) C dX1_routeAt_1 (by decide) ?_
  refine x_aload_n C dX1_routeAt_2 0 rfl ?_
  obtain ⟨t1, hf⟩ := pf_ch hf
  refine cg1_21 C B t1 (flo C q640) fsm dX1_routeAt_3 ?_
  refine x_iconst (1 : Int32) C dX1_routeAt_6 (by decide) ?_
  refine x_isub C dX1_routeAt_7 ?_
  refine k_X1_isIn_X1 C B dK (Nat.le_of_ble_eq_true rfl) cz rfl (Nat.le_of_ble_eq_true rfl) dX1_routeAt_8 ?_
  refine x_if_eq (tgt := 23) C dX1_routeAt_11 (by decide) (fun c2 => ?_) (fun c2 => ?_)
  · have hf := pf_t c2 hf
    refine x_iconst (-1 : Int32) C dX1_routeAt_23 (by decide) ?_
    obtain rfl := Option.some.inj hf
    exact c_iret C hr hQ dX1_routeAt_24
  · have hf := pf_f c2 hf
    refine x_aload_n C dX1_routeAt_14 0 rfl ?_
    obtain ⟨p3, ep3, hf⟩ := pf_b hf
    refine cg1_23 C B t1 (flo C q642) fsm ep3 dX1_routeAt_15 ?_
    refine x_iload_n C dX1_routeAt_18 1 rfl ?_
    obtain ⟨t4, hf⟩ := pf_ch hf
    obtain ⟨h5, hf⟩ := pf_in hf
    refine ca_ild C B t4 h5 dX1_routeAt_19 ?_
    refine x_goto (tgt := 24) C dX1_routeAt_20 (by decide) ?_
    obtain rfl := Option.some.inj hf
    exact c_iret C hr hQ dX1_routeAt_24
theorem met_X1_routeAt {T : CT} {v : Int32} {g : CG} {d : CD} {x0 : Nat} {x1 : Int32} {l : Launch} (hf : f_X1_routeAt g d x0 x1 = some v) : Met l yX1_routeAt (ws_ yX1_routeAt cX1_routeAt 2 (some .int)) (rmC 3 0 0) (va_Pc [.ref x0, .int x1] (CU T g d)) (Qc T (some (.int v)) g d) 0 0 (cA T) :=
  c_met [.ref x0, .int x1] RX1 (by decide) rfl (Nat.le_of_ble_eq_true rfl) (fun K hl hR hr C B hQ => w_X1_routeAt_E _ _ C B hr hR hQ _ _ hf)
def f_X1_solvent_L4 (n : Nat) (g : CG) (d : CD) : Nat → Nat → Int32 → Int32 → Option Int32
  | 0, _, _, _ => none
  | m + 1, x0, x1, x2 => if ht g x0 = 1 then (hr g x0 6).bind fun p2 => if ht g p2 = 3 then if (hi d p2 20) ≤ x2 then (some x1) else ((hr g x0 7).bind fun p5 => (f_X1_all g d x0).bind fun r6 => (f_X1_isSolvent n g d x0 p5 x2 r6).bind fun r7 => if r7 = 0 then (f_X1_solvent_L4 n g d m x0 x1 (x2 + (1 : Int32))) else (ev (x1 ||| ((1 : Int32) <<< (x2 &&& 31))) fun v9 => f_X1_solvent_L4 n g d m x0 v9 (x2 + (1 : Int32)))) else none else none
set_option maxHeartbeats 4000000 in
theorem w_X1_solvent_4 {K : KT} {T : CT} {r : Int32} (n : Nat) (g : CG) (d : CD) (C : Kok K cX1_solvent 3 RX1) (B : CB K T) (hr : (kMe K).sig.returnType = (some .int)) (dK : kR K = rmC 6 0 0) (hQ : KQc K T (some (.int r)) 0 0 g d) : ∀ (m : Nat) (x0 : Nat) (x1 : Int32) (x2 : Int32) (hf : f_X1_solvent_L4 n g d m x0 x1 x2 = some r), XJ K 3 (Wc K T 0 0 g d) 4 [(0, .ref x0), (1, .int x1), (2, .int x2)] [] := by
  intro m
  induction m with
  | zero => intro x0 x1 x2 hf; cases hf
  | succ m ih =>
    intro x0 x1 x2 hf
    rw [f_X1_solvent_L4] at hf
    refine x_iload_n C dX1_solvent_4 2 rfl ?_
    refine x_aload_n C dX1_solvent_5 0 rfl ?_
    obtain ⟨t1, hf⟩ := pf_ch hf
    obtain ⟨p2, ep2, hf⟩ := pf_b hf
    refine cg1_6 C B t1 (flo C q621) fsm ep2 dX1_solvent_6 ?_
    obtain ⟨t3, hf⟩ := pf_ch hf
    refine cg3_20 C B t3 (fln B q337) fsm dX1_solvent_9 ?_
    refine x_icmp_ge (tgt := 43) C dX1_solvent_12 (by decide) (fun c4 => ?_) (fun c4 => ?_)
    · have hf := pf_t c4 hf
      refine x_iload_n C dX1_solvent_43 1 rfl ?_
      obtain rfl := Option.some.inj hf
      exact c_iret C hr hQ dX1_solvent_44
    · have hf := pf_f c4 hf
      refine x_aload_n C dX1_solvent_15 0 rfl ?_
      refine x_aload_n C dX1_solvent_16 0 rfl ?_
      obtain ⟨p5, ep5, hf⟩ := pf_b hf
      refine cg1_7 C B t1 (flo C q624) fsm ep5 dX1_solvent_17 ?_
      refine x_iload_n C dX1_solvent_20 2 rfl ?_
      refine x_aload_n C dX1_solvent_21 0 rfl ?_
      obtain ⟨r6, er6, hf⟩ := pf_b hf
      refine k_X1_all_X1 C B t1 dK (Nat.le_of_ble_eq_true rfl) cz er6 (Nat.le_of_ble_eq_true rfl) dX1_solvent_22 ?_
      obtain ⟨r7, er7, hf⟩ := pf_b hf
      refine k_X1_isSolvent_X1 C B t1 dK (Nat.le_of_ble_eq_true rfl) cz er7 (Nat.le_of_ble_eq_true rfl) dX1_solvent_25 ?_
      refine x_if_eq (tgt := 37) C dX1_solvent_28 (by decide) (fun c8 => ?_) (fun c8 => ?_)
      · have hf := pf_t c8 hf
        refine x_inc (c := (1 : Int32)) (L' := [(0, .ref x0), (1, .int x1), (2, .int (x2 + (1 : Int32)))]) C dX1_solvent_37 2 rfl (by decide) (Nat.le_of_ble_eq_true rfl) [1, 2, 0] rfl ?_
        refine x_goto (tgt := 4) C dX1_solvent_40 (by decide) ?_
        exact ih x0 x1 (x2 + (1 : Int32)) hf
      · have hf := pf_f c8 hf
        refine x_iload_n C dX1_solvent_31 1 rfl ?_
        refine x_iconst (1 : Int32) C dX1_solvent_32 (by decide) ?_
        refine x_iload_n C dX1_solvent_33 2 rfl ?_
        refine x_ishl C dX1_solvent_34 ?_
        refine x_ior C dX1_solvent_35 ?_
        obtain ⟨v9, ev9, hf⟩ := pf_e hf
        refine x_topir ev9 ?_
        refine x_istore_n (L' := [(0, .ref x0), (1, .int v9), (2, .int x2)]) C dX1_solvent_36 (Nat.le_of_ble_eq_true rfl) [1, 0, 2] rfl ?_
        refine x_inc (c := (1 : Int32)) (L' := [(0, .ref x0), (1, .int v9), (2, .int (x2 + (1 : Int32)))]) C dX1_solvent_37 2 rfl (by decide) (Nat.le_of_ble_eq_true rfl) [1, 2, 0] rfl ?_
        refine x_goto (tgt := 4) C dX1_solvent_40 (by decide) ?_
        exact ih x0 v9 (x2 + (1 : Int32)) hf
def f_X1_solvent (n : Nat) (g : CG) (d : CD) (x0 : Nat) : Option Int32 := f_X1_solvent_L4 n g d n x0 (0 : Int32) (0 : Int32)
set_option maxHeartbeats 4000000 in
theorem w_X1_solvent_E {K : KT} {T : CT} {r : Int32} (n : Nat) (g : CG) (d : CD) (C : Kok K cX1_solvent 3 RX1) (B : CB K T) (hr : (kMe K).sig.returnType = (some .int)) (dK : kR K = rmC 6 0 0) (hQ : KQc K T (some (.int r)) 0 0 g d) (x0 : Nat) (hf : f_X1_solvent n g d x0 = some r) : XJ K 3 (Wc K T 0 0 g d) 0 [(0, .ref x0)] [] := by
  unfold f_X1_solvent at hf
  refine x_iconst (0 : Int32) C dX1_solvent_0 (by decide) ?_
  refine x_istore_n (L' := [(0, .ref x0), (1, .int (0 : Int32))]) C dX1_solvent_1 (Nat.le_of_ble_eq_true rfl) [1, 0] rfl ?_
  refine x_iconst (0 : Int32) C dX1_solvent_2 (by decide) ?_
  refine x_istore_n (L' := [(0, .ref x0), (1, .int (0 : Int32)), (2, .int (0 : Int32))]) C dX1_solvent_3 (Nat.le_of_ble_eq_true rfl) [1, 2, 0] rfl ?_
  exact w_X1_solvent_4 n g d C B hr dK hQ n x0 (0 : Int32) (0 : Int32) hf
theorem met_X1_solvent {T : CT} {v : Int32} {n : Nat} {g : CG} {d : CD} {x0 : Nat} {l : Launch} (hf : f_X1_solvent n g d x0 = some v) : Met l yX1_solvent (ws_ yX1_solvent cX1_solvent 3 (some .int)) (rmC 6 0 0) (va_Pc [.ref x0] (CU T g d)) (Qc T (some (.int v)) g d) 0 0 (cA T) :=
  c_met [.ref x0] RX1 (by decide) rfl (Nat.le_of_ble_eq_true rfl) (fun K hl hR hr C B hQ => w_X1_solvent_E _ _ _ C B hr hR hQ _ hf)
