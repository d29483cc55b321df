set_option maxRecDepth 100000
theorem k_X3_likes_X3 {K : KT} {T : CT} {c0 s0 c1 s1 dk : Nat} {cc : ByteArray} {nL pc : Nat} {L : List (Nat × Value)} {rest : List Value} {g : CG} {d : CD} {v : Int32} {x0 : Nat} {x1 : Int32} {x2 : Int32} (C : Kok K cc nL RX3) (B : CB K T) (hta : ht g x0 = 3) (dK : kR K = rmC dk c1 s1) (hd : 2 + 1 ≤ dk) (hcs : c0 + 0 ≤ c1 ∧ s0 + 0 ≤ s1) (hf : f_X3_likes g d x0 x1 x2 = some v) (hW : (rest.map fun v => v.category).sum ≤ 8) (dd : decode cc pc = .ok (.invokevirtual 88, 3)) (kk2 : XJ K nL (Wc K T c0 s0 g d) (pc + 3) L ((.int v) :: rest)) : XJ K nL (Wc K T c0 s0 g d) pc L (.int x2 :: .int x1 :: .ref x0 :: rest) :=
  c_callV (rest := rest) (v := (some (.int v))) [.int x1, .int x2] 2 rfl C B hta (by decide) (by decide) rfl dK hd (Nat.le_of_ble_eq_true rfl) hcs (lw_V q1155 q1003 q1004 q125 q1005) (by decide +kernel) (met_X3_likes hf) rfl hW dd kk2
theorem k_X1_has_X3 {K : KT} {T : CT} {c0 s0 c1 s1 dk : Nat} {cc : ByteArray} {nL pc : Nat} {L : List (Nat × Value)} {rest : List Value} {g : CG} {d : CD} {v : Int32} {x0 : Int32} {x1 : Int32} (C : Kok K cc nL RX3) (B : CB K T) (dK : kR K = rmC dk c1 s1) (hd : 2 + 1 ≤ dk) (hcs : c0 + 0 ≤ c1 ∧ s0 + 0 ≤ s1) (hf : f_X1_has x0 x1 = v) (hW : (rest.map fun v => v.category).sum ≤ 8) (dd : decode cc pc = .ok (.invokestatic 74, 3)) (kk2 : XJ K nL (Wc K T c0 s0 g d) (pc + 3) L ((.int v) :: rest)) : XJ K nL (Wc K T c0 s0 g d) pc L (.int x1 :: .int x0 :: rest) :=
  c_callSN (rest := rest) (v := (some (.int v))) [.int x0, .int x1] 2 rfl C B dK hd (Nat.le_of_ble_eq_true rfl) hcs (lw_meth q930) q960 q929 q121 (by decide +kernel) (met_X1_has hf) rfl hW dd kk2
theorem k_X3_comes_X3 {K : KT} {T : CT} {c0 s0 c1 s1 dk : Nat} {cc : ByteArray} {nL pc : Nat} {L : List (Nat × Value)} {rest : List Value} {g : CG} {d : CD} {v : Int32} {n : Nat} {x0 : Nat} {x1 : Int32} {x2 : Int32} (C : Kok K cc nL RX3) (B : CB K T) (hta : ht g x0 = 3) (dK : kR K = rmC dk c1 s1) (hd : 2 + 1 ≤ dk) (hcs : c0 + 0 ≤ c1 ∧ s0 + 0 ≤ s1) (hf : f_X3_comes n g d x0 x1 x2 = some v) (hW : (rest.map fun v => v.category).sum ≤ 8) (dd : decode cc pc = .ok (.invokevirtual 85, 3)) (kk2 : XJ K nL (Wc K T c0 s0 g d) (pc + 3) L ((.int v) :: rest)) : XJ K nL (Wc K T c0 s0 g d) pc L (.int x2 :: .int x1 :: .ref x0 :: rest) :=
  c_callV (rest := rest) (v := (some (.int v))) [.int x1, .int x2] 2 rfl C B hta (by decide) (by decide) rfl dK hd (Nat.le_of_ble_eq_true rfl) hcs (lw_V q982 q983 q984 q125 q985) (by decide +kernel) (met_X3_comes hf) rfl hW dd kk2
def f_X3_yields_L60 (n : Nat) (g : CG) (d : CD) (k6 : Nat → Int32 → Int32 → Int32 → Int32 → Int32 → Int32 → Option Int32) (x0 : Nat) (x1 : Int32) (x2 : Int32) (x3 : Int32) (x4 : Int32) (x6 : Int32) (y0 : Int32) (y1 : Int32) : Option Int32 := if ht g x0 = 3 then (f_X3_likes g d x0 x6 x3).bind fun r2 => (hr g x0 12).bind fun p3 => if ht g p3 = 100 then if inb x6 (hn g p3) = true then if ¬ (hi d p3 (Int32.toNatClampNeg x6)) = 0 then ev (y0 + ((y1 * r2) * ((420 : Int32) / (hi d p3 (Int32.toNatClampNeg x6))))) fun v7 => k6 x0 x1 x2 x3 x4 v7 (x6 + (1 : Int32)) else none else none else none else none
set_option maxHeartbeats 4000000 in
theorem w_X3_yields_60 {K : KT} {T : CT} {r : Int32} (n : Nat) (g : CG) (d : CD) (k6 : Nat → Int32 → Int32 → Int32 → Int32 → Int32 → Int32 → Option Int32) (C : Kok K cX3_yields 7 RX3) (B : CB K T) (hr : (kMe K).sig.returnType = (some .int)) (dK : kR K = rmC 3 0 0) (hQ : KQc K T (some (.int r)) 0 0 g d)  (hk6 : ∀ (x0 : Nat) (x1 : Int32) (x2 : Int32) (x3 : Int32) (x4 : Int32) (x5 : Int32) (x6 : Int32), k6 x0 x1 x2 x3 x4 x5 x6 = some r → XJ K 7 (Wc K T 0 0 g d) 6 [(0, .ref x0), (1, .int x1), (2, .int x2), (3, .int x3), (4, .int x4), (5, .int x5), (6, .int x6)] []) (x0 : Nat) (x1 : Int32) (x2 : Int32) (x3 : Int32) (x4 : Int32) (x6 : Int32) (y0 : Int32) (y1 : Int32) (hf : f_X3_yields_L60 n g d k6 x0 x1 x2 x3 x4 x6 y0 y1 = some r) : XJ K 7 (Wc K T 0 0 g d) 60 [(0, .ref x0), (1, .int x1), (2, .int x2), (3, .int x3), (4, .int x4), (6, .int x6)] [.int y1, .int y0] := by
  unfold f_X3_yields_L60 at hf
  refine x_aload_n C dX3_yields_60 0 rfl ?_
  refine x_iload C dX3_yields_61 5 rfl ?_
  refine x_iload_n C dX3_yields_63 3 rfl ?_
  obtain ⟨t1, hf⟩ := pf_ch hf
  obtain ⟨r2, er2, hf⟩ := pf_b hf
  refine k_X3_likes_X3 C B t1 dK (Nat.le_of_ble_eq_true rfl) cz er2 (Nat.le_of_ble_eq_true rfl) dX3_yields_64 ?_
  refine x_imul C dX3_yields_67 ?_
  refine x_sipush (420 : Int32) C dX3_yields_68 (by decide) ?_
  refine x_aload_n C dX3_yields_71 0 rfl ?_
  obtain ⟨p3, ep3, hf⟩ := pf_b hf
  refine cg3_12 C B t1 (flo C q307) fsm ep3 dX3_yields_72 ?_
  refine x_iload C dX3_yields_75 5 rfl ?_
  obtain ⟨t4, hf⟩ := pf_ch hf
  obtain ⟨h5, hf⟩ := pf_in hf
  refine ca_ild C B t4 h5 dX3_yields_77 ?_
  obtain ⟨h6, hf⟩ := pf_ch hf
  refine x_idiv C h6 dX3_yields_78 ?_
  refine x_imul C dX3_yields_79 ?_
  refine x_iadd C dX3_yields_80 ?_
  obtain ⟨v7, ev7, hf⟩ := pf_e hf
  refine x_topir ev7 ?_
  refine x_istore (L' := [(0, .ref x0), (1, .int x1), (2, .int x2), (3, .int x3), (4, .int x4), (5, .int v7), (6, .int x6)]) C dX3_yields_81 (Nat.le_of_ble_eq_true rfl) [1, 2, 3, 4, 5, 0, 6] rfl ?_
  refine x_inc (c := (1 : Int32)) (L' := [(0, .ref x0), (1, .int x1), (2, .int x2), (3, .int x3), (4, .int x4), (5, .int v7), (6, .int (x6 + (1 : Int32)))]) C dX3_yields_83 6 rfl (by decide) (Nat.le_of_ble_eq_true rfl) [1, 2, 3, 4, 5, 6, 0] rfl ?_
  refine x_goto (tgt := 6) C dX3_yields_86 (by decide) ?_
  exact hk6 x0 x1 x2 x3 x4 v7 (x6 + (1 : Int32)) hf
def f_X3_yields_L6 (n : Nat) (g : CG) (d : CD) : Nat → Nat → Int32 → Int32 → Int32 → Int32 → Int32 → Int32 → Option Int32
  | 0, _, _, _, _, _, _, _ => none
  | m + 1, x0, x1, x2, x3, x4, x5, x6 => if ht g x0 = 3 then if (hi d x0 21) ≤ x6 then (some x5) else (if (f_X1_has x1 x6) = 0 then (f_X3_yields_L6 n g d m x0 x1 x2 x3 x4 x5 (x6 + (1 : Int32))) else ((f_X3_comes n g d x0 x6 x2).bind fun r4 => if r4 = 0 then (f_X3_yields_L6 n g d m x0 x1 x2 x3 x4 x5 (x6 + (1 : Int32))) else (if x4 = 0 then ((hr g x0 13).bind fun p7 => if ht g p7 = 100 then if inb x6 (hn g p7) = true then f_X3_yields_L60 n g d (f_X3_yields_L6 n g d m) x0 x1 x2 x3 x4 x6 x5 (hi d p7 (Int32.toNatClampNeg x6)) else none else none) else ((hr g x0 13).bind fun p10 => if ht g p10 = 100 then if inb x6 (hn g p10) = true then f_X3_yields_L60 n g d (f_X3_yields_L6 n g d m) x0 x1 x2 x3 x4 x6 x5 ((hi d p10 (Int32.toNatClampNeg x6)) / (2 : Int32)) else none else none)))) else none
set_option maxHeartbeats 4000000 in
theorem w_X3_yields_6 {K : KT} {T : CT} {r : Int32} (n : Nat) (g : CG) (d : CD) (C : Kok K cX3_yields 7 RX3) (B : CB K T) (hr : (kMe K).sig.returnType = (some .int)) (dK : kR K = rmC 3 0 0) (hQ : KQc K T (some (.int r)) 0 0 g d) : ∀ (m : Nat) (x0 : Nat) (x1 : Int32) (x2 : Int32) (x3 : Int32) (x4 : Int32) (x5 : Int32) (x6 : Int32) (hf : f_X3_yields_L6 n g d m x0 x1 x2 x3 x4 x5 x6 = some r), XJ K 7 (Wc K T 0 0 g d) 6 [(0, .ref x0), (1, .int x1), (2, .int x2), (3, .int x3), (4, .int x4), (5, .int x5), (6, .int x6)] [] := by
  intro m
  induction m with
  | zero => intro x0 x1 x2 x3 x4 x5 x6 hf; cases hf
  | succ m ih =>
    intro x0 x1 x2 x3 x4 x5 x6 hf
    rw [f_X3_yields_L6] at hf
    refine x_iload C dX3_yields_6 6 rfl ?_
    refine x_aload_n C dX3_yields_8 0 rfl ?_
    obtain ⟨t1, hf⟩ := pf_ch hf
    refine cg3_21 C B t1 (flo C q338) fsm dX3_yields_9 ?_
    refine x_icmp_ge (tgt := 89) C dX3_yields_12 (by decide) (fun c2 => ?_) (fun c2 => ?_)
    · have hf := pf_t c2 hf
      refine x_iload C dX3_yields_89 5 rfl ?_
      obtain rfl := Option.some.inj hf
      exact c_iret C hr hQ dX3_yields_91
    · have hf := pf_f c2 hf
      refine x_iload_n C dX3_yields_15 1 rfl ?_
      refine x_iload C dX3_yields_16 6 rfl ?_
      refine k_X1_has_X3 C B dK (Nat.le_of_ble_eq_true rfl) cz rfl (Nat.le_of_ble_eq_true rfl) dX3_yields_18 ?_
      refine x_if_eq (tgt := 83) C dX3_yields_21 (by decide) (fun c3 => ?_) (fun c3 => ?_)
      · have hf := pf_t c3 hf
        refine x_inc (c := (1 : Int32)) (L' := [(0, .ref x0), (1, .int x1), (2, .int x2), (3, .int x3), (4, .int x4), (5, .int x5), (6, .int (x6 + (1 : Int32)))]) C dX3_yields_83 6 rfl (by decide) (Nat.le_of_ble_eq_true rfl) [1, 2, 3, 4, 5, 6, 0] rfl ?_
        refine x_goto (tgt := 6) C dX3_yields_86 (by decide) ?_
        exact ih x0 x1 x2 x3 x4 x5 (x6 + (1 : Int32)) hf
      · have hf := pf_f c3 hf
        refine x_aload_n C dX3_yields_24 0 rfl ?_
        refine x_iload C dX3_yields_25 6 rfl ?_
        refine x_iload_n C dX3_yields_27 2 rfl ?_
        obtain ⟨r4, er4, hf⟩ := pf_b hf
        refine k_X3_comes_X3 C B t1 dK (Nat.le_of_ble_eq_true rfl) cz er4 (Nat.le_of_ble_eq_true rfl) dX3_yields_28 ?_
        refine x_if_eq (tgt := 83) C dX3_yields_31 (by decide) (fun c5 => ?_) (fun c5 => ?_)
        · have hf := pf_t c5 hf
          refine x_inc (c := (1 : Int32)) (L' := [(0, .ref x0), (1, .int x1), (2, .int x2), (3, .int x3), (4, .int x4), (5, .int x5), (6, .int (x6 + (1 : Int32)))]) C dX3_yields_83 6 rfl (by decide) (Nat.le_of_ble_eq_true rfl) [1, 2, 3, 4, 5, 6, 0] rfl ?_
          refine x_goto (tgt := 6) C dX3_yields_86 (by decide) ?_
          exact ih x0 x1 x2 x3 x4 x5 (x6 + (1 : Int32)) hf
        · have hf := pf_f c5 hf
          refine x_iload C dX3_yields_34 5 rfl ?_
          refine x_iload C dX3_yields_36 4 rfl ?_
          refine x_if_eq (tgt := 53) C dX3_yields_38 (by decide) (fun c6 => ?_) (fun c6 => ?_)
          · have hf := pf_t c6 hf
            refine x_aload_n C dX3_yields_53 0 rfl ?_
            obtain ⟨p7, ep7, hf⟩ := pf_b hf
            refine cg3_13 C B t1 (flo C q311) fsm ep7 dX3_yields_54 ?_
            refine x_iload C dX3_yields_57 6 rfl ?_
            obtain ⟨t8, hf⟩ := pf_ch hf
            obtain ⟨h9, hf⟩ := pf_in hf
            refine ca_ild C B t8 h9 dX3_yields_59 ?_
            refine x_sub [0, 1, 2, 3, 4, 6] (L' := [(0, .ref x0), (1, .int x1), (2, .int x2), (3, .int x3), (4, .int x4), (6, .int x6)]) rfl ?_
            exact w_X3_yields_60 n g d _ C B hr dK hQ ih x0 x1 x2 x3 x4 x6 x5 (hi d p7 (Int32.toNatClampNeg x6)) hf
          · have hf := pf_f c6 hf
            refine x_aload_n C dX3_yields_41 0 rfl ?_
            obtain ⟨p10, ep10, hf⟩ := pf_b hf
            refine cg3_13 C B t1 (flo C q311) fsm ep10 dX3_yields_42 ?_
            refine x_iload C dX3_yields_45 6 rfl ?_
            obtain ⟨t11, hf⟩ := pf_ch hf
            obtain ⟨h12, hf⟩ := pf_in hf
            refine ca_ild C B t11 h12 dX3_yields_47 ?_
            refine x_iconst (2 : Int32) C dX3_yields_48 (by decide) ?_
            refine x_idiv C (by decide) dX3_yields_49 ?_
            refine x_goto (tgt := 60) C dX3_yields_50 (by decide) ?_
            refine x_sub [0, 1, 2, 3, 4, 6] (L' := [(0, .ref x0), (1, .int x1), (2, .int x2), (3, .int x3), (4, .int x4), (6, .int x6)]) rfl ?_
            exact w_X3_yields_60 n g d _ C B hr dK hQ ih x0 x1 x2 x3 x4 x6 x5 ((hi d p10 (Int32.toNatClampNeg x6)) / (2 : Int32)) hf
def f_X3_yields (n : Nat) (g : CG) (d : CD) (x0 : Nat) (x1 : Int32) (x2 : Int32) (x3 : Int32) (x4 : Int32) : Option Int32 := f_X3_yields_L6 n g d n x0 x1 x2 x3 x4 (0 : Int32) (0 : Int32)
set_option maxHeartbeats 4000000 in
theorem w_X3_yields_E {K : KT} {T : CT} {r : Int32} (n : Nat) (g : CG) (d : CD) (C : Kok K cX3_yields 7 RX3) (B : CB K T) (hr : (kMe K).sig.returnType = (some .int)) (dK : kR K = rmC 3 0 0) (hQ : KQc K T (some (.int r)) 0 0 g d) (x0 : Nat) (x1 : Int32) (x2 : Int32) (x3 : Int32) (x4 : Int32) (hf : f_X3_yields n g d x0 x1 x2 x3 x4 = some r) : XJ K 7 (Wc K T 0 0 g d) 0 [(0, .ref x0), (1, .int x1), (2, .int x2), (3, .int x3), (4, .int x4)] [] := by
  unfold f_X3_yields at hf
  refine x_iconst (0 : Int32) C dX3_yields_0 (by decide) ?_
  refine x_istore (L' := [(0, .ref x0), (1, .int x1), (2, .int x2), (3, .int x3), (4, .int x4), (5, .int (0 : Int32))]) C dX3_yields_1 (Nat.le_of_ble_eq_true rfl) [1, 2, 3, 4, 5, 0] rfl ?_
  refine x_iconst (0 : Int32) C dX3_yields_3 (by decide) ?_
  refine x_istore (L' := [(0, .ref x0), (1, .int x1), (2, .int x2), (3, .int x3), (4, .int x4), (5, .int (0 : Int32)), (6, .int (0 : Int32))]) C dX3_yields_4 (Nat.le_of_ble_eq_true rfl) [1, 2, 3, 4, 5, 6, 0] rfl ?_
  exact w_X3_yields_6 n g d C B hr dK hQ n x0 x1 x2 x3 x4 (0 : Int32) (0 : Int32) hf
theorem met_X3_yields {T : CT} {v : Int32} {n : Nat} {g : CG} {d : CD} {x0 : Nat} {x1 : Int32} {x2 : Int32} {x3 : Int32} {x4 : Int32} {l : Launch} (hf : f_X3_yields n g d x0 x1 x2 x3 x4 = some v) : Met l yX3_yields (ws_ yX3_yields cX3_yields 7 (some .int)) (rmC 3 0 0) (va_Pc [.ref x0, .int x1, .int x2, .int x3, .int x4] (CU T g d)) (Qc T (some (.int v)) g d) 0 0 (cA T) :=
  c_met [.ref x0, .int x1, .int x2, .int x3, .int x4] RX3 (by decide) rfl (Nat.le_of_ble_eq_true rfl) (fun K hl hR hr C B hQ => w_X3_yields_E _ _ _ C B hr hR hQ _ _ _ _ _ hf)
theorem k_X3_yields_X3 {K : KT} {T : CT} {c0 s0 c1 s1 dk : Nat} {cc : ByteArray} {nL pc : Nat} {L : List (Nat × Value)} {rest : List Value} {g : CG} {d : CD} {v : Int32} {n : Nat} {x0 : Nat} {x1 : Int32} {x2 : Int32} {x3 : Int32} {x4 : Int32} (C : Kok K cc nL RX3) (B : CB K T) (hta : ht g x0 = 3) (dK : kR K = rmC dk c1 s1) (hd : 3 + 1 ≤ dk) (hcs : c0 + 0 ≤ c1 ∧ s0 + 0 ≤ s1) (hf : f_X3_yields n g d x0 x1 x2 x3 x4 = some v) (hW : (rest.map fun v => v.category).sum ≤ 8) (dd : decode cc pc = .ok (.invokevirtual 91, 3)) (kk2 : XJ K nL (Wc K T c0 s0 g d) (pc + 3) L ((.int v) :: rest)) : XJ K nL (Wc K T c0 s0 g d) pc L (.int x4 :: .int x3 :: .int x2 :: .int x1 :: .ref x0 :: rest) :=
  c_callV (rest := rest) (v := (some (.int v))) [.int x1, .int x2, .int x3, .int x4] 4 rfl C B hta (by decide) (by decide) rfl dK hd (Nat.le_of_ble_eq_true rfl) hcs (lw_V q1151 q1152 q1153 q125 q1154) (by decide +kernel) (met_X3_yields hf) rfl hW dd kk2
def f_X3_isEnough (n : Nat) (g : CG) (d : CD) (x0 : Nat) (x1 : Int32) (x2 : Int32) (x3 : Int32) (x4 : Int32) : Option Int32 := if ht g x0 = 3 then (f_X3_yields n g d x0 x1 x2 x3 x4).bind fun r2 => (hr g x0 4).bind fun p3 => if ht g p3 = 100 then if inb x2 (hn g p3) = true then if r2 < ((5040 : Int32) * (hi d p3 (Int32.toNatClampNeg x2))) then (some (0 : Int32)) else (some (1 : Int32)) else none else none else none
set_option maxHeartbeats 4000000 in
theorem w_X3_isEnough_E {K : KT} {T : CT} {r : Int32} (n : Nat) (g : CG) (d : CD) (C : Kok K cX3_isEnough 5 RX3) (B : CB K T) (hr : (kMe K).sig.returnType = (some .boolean)) (dK : kR K = rmC 4 0 0) (hQ : KQc K T (some (.int r)) 0 0 g d) (x0 : Nat) (x1 : Int32) (x2 : Int32) (x3 : Int32) (x4 : Int32) (hf : f_X3_isEnough n g d x0 x1 x2 x3 x4 = some r) : XJ K 5 (Wc K T 0 0 g d) 0 [(0, .ref x0), (1, .int x1), (2, .int x2), (3, .int x3), (4, .int x4)] [] := by
  unfold f_X3_isEnough at hf
  refine x_aload_n C dX3_isEnough_0 0 rfl ?_
  refine x_iload_n C dX3_isEnough_1 1 rfl ?_
  refine x_iload_n C dX3_isEnough_2 2 rfl ?_
  refine x_iload_n C dX3_isEnough_3 3 rfl ?_
  refine x_iload C dX3_isEnough_4 4 rfl ?_
  obtain ⟨t1, hf⟩ := pf_ch hf
  obtain ⟨r2, er2, hf⟩ := pf_b hf
  refine k_X3_yields_X3 C B t1 dK (Nat.le_of_ble_eq_true rfl) cz er2 (Nat.le_of_ble_eq_true rfl) dX3_isEnough_6 ?_
  refine x_sipush (5040 : Int32) C dX3_isEnough_9 (by decide) ?_
  refine x_aload_n C dX3_isEnough_12 0 rfl ?_
  obtain ⟨p3, ep3, hf⟩ := pf_b hf
  refine cg3_4 C B t1 (flo C q282) fsm ep3 dX3_isEnough_13 ?_
  refine x_iload_n C dX3_isEnough_16 2 rfl ?_
  obtain ⟨t4, hf⟩ := pf_ch hf
  obtain ⟨h5, hf⟩ := pf_in hf
  refine ca_ild C B t4 h5 dX3_isEnough_17 ?_
  refine x_imul C dX3_isEnough_18 ?_
  refine x_icmp_lt (tgt := 26) C dX3_isEnough_19 (by decide) (fun c6 => ?_) (fun c6 => ?_)
  · have hf := pf_t c6 hf
    refine x_iconst (0 : Int32) C dX3_isEnough_26 (by decide) ?_
    obtain rfl := Option.some.inj hf
    exact c_zret C hr (Or.inl rfl) hQ dX3_isEnough_27
  · have hf := pf_f c6 hf
    refine x_iconst (1 : Int32) C dX3_isEnough_22 (by decide) ?_
    refine x_goto (tgt := 27) C dX3_isEnough_23 (by decide) ?_
    obtain rfl := Option.some.inj hf
    exact c_zret C hr (Or.inr rfl) hQ dX3_isEnough_27
theorem bz_X3_isEnough_E {r : Int32} {n : Nat} {g : CG} {d : CD} {x0 : Nat} {x1 : Int32} {x2 : Int32} {x3 : Int32} {x4 : Int32} (hf : f_X3_isEnough n g d x0 x1 x2 x3 x4 = some r) : r = 0 ∨ r = 1 := by
  unfold f_X3_isEnough at hf
  obtain ⟨t1, hf⟩ := pf_ch hf
  obtain ⟨r2, er2, hf⟩ := pf_b hf
  obtain ⟨p3, ep3, hf⟩ := pf_b hf
  obtain ⟨t4, hf⟩ := pf_ch hf
  obtain ⟨h5, hf⟩ := pf_in hf
  by_cases c6 : r2 < ((5040 : Int32) * (hi d p3 (Int32.toNatClampNeg x2)))
  · have hf := pf_t c6 hf
    obtain rfl := Option.some.inj hf
    exact (Or.inl rfl)
  · have hf := pf_f c6 hf
    obtain rfl := Option.some.inj hf
    exact (Or.inr rfl)
theorem met_X3_isEnough {T : CT} {v : Int32} {n : Nat} {g : CG} {d : CD} {x0 : Nat} {x1 : Int32} {x2 : Int32} {x3 : Int32} {x4 : Int32} {l : Launch} (hf : f_X3_isEnough n g d x0 x1 x2 x3 x4 = some v) : Met l yX3_isEnough (ws_ yX3_isEnough cX3_isEnough 5 (some .boolean)) (rmC 4 0 0) (va_Pc [.ref x0, .int x1, .int x2, .int x3, .int x4] (CU T g d)) (Qc T (some (.int v)) g d) 0 0 (cA T) :=
  c_met [.ref x0, .int x1, .int x2, .int x3, .int x4] RX3 (by decide) rfl (Nat.le_of_ble_eq_true rfl) (fun K hl hR hr C B hQ => w_X3_isEnough_E _ _ _ C B hr hR hQ _ _ _ _ _ hf)
theorem k_X5_isGone_X1 {K : KT} {T : CT} {c0 s0 c1 s1 dk : Nat} {cc : ByteArray} {nL pc : Nat} {L : List (Nat × Value)} {rest : List Value} {g : CG} {d : CD} {v : Int32} {x0 : Nat} (C : Kok K cc nL RX1) (B : CB K T) (hta : ht g x0 = 5) (dK : kR K = rmC dk c1 s1) (hd : 2 + 1 ≤ dk) (hcs : c0 + 0 ≤ c1 ∧ s0 + 0 ≤ s1) (hf : f_X5_isGone g d x0 = some v) (hW : (rest.map fun v => v.category).sum ≤ 8) (dd : decode cc pc = .ok (.invokevirtual 233, 3)) (kk2 : XJ K nL (Wc K T c0 s0 g d) (pc + 3) L ((.int v) :: rest)) : XJ K nL (Wc K T c0 s0 g d) pc L (.ref x0 :: rest) :=
  c_callV (rest := rest) (v := (some (.int v))) [] 0 rfl C B hta (by decide) (by decide) rfl dK hd (Nat.le_of_ble_eq_true rfl) hcs (lw_V q1146 q1020 q1021 q127 q1022) (by decide +kernel) (met_X5_isGone hf) rfl hW dd kk2
theorem k_X3_isEnough_X1 {K : KT} {T : CT} {c0 s0 c1 s1 dk : Nat} {cc : ByteArray} {nL pc : Nat} {L : List (Nat × Value)} {rest : List Value} {g : CG} {d : CD} {v : Int32} {n : Nat} {x0 : Nat} {x1 : Int32} {x2 : Int32} {x3 : Int32} {x4 : Int32} (C : Kok K cc nL RX1) (B : CB K T) (hta : ht g x0 = 3) (dK : kR K = rmC dk c1 s1) (hd : 4 + 1 ≤ dk) (hcs : c0 + 0 ≤ c1 ∧ s0 + 0 ≤ s1) (hf : f_X3_isEnough n g d x0 x1 x2 x3 x4 = some v) (hW : (rest.map fun v => v.category).sum ≤ 8) (dd : decode cc pc = .ok (.invokevirtual 372, 3)) (kk2 : XJ K nL (Wc K T c0 s0 g d) (pc + 3) L ((.int v) :: rest)) : XJ K nL (Wc K T c0 s0 g d) pc L (.int x4 :: .int x3 :: .int x2 :: .int x1 :: .ref x0 :: rest) :=
  c_callV (rest := rest) (v := (some (.int v))) [.int x1, .int x2, .int x3, .int x4] 4 rfl C B hta (by decide) (by decide) rfl dK hd (Nat.le_of_ble_eq_true rfl) hcs (lw_V q1147 q1148 q1149 q125 q1150) (by decide +kernel) (met_X3_isEnough hf) rfl hW dd kk2
def f_X1_isSolvent (n : Nat) (g : CG) (d : CD) (x0 : Nat) (x1 : Nat) (x2 : Int32) (x3 : Int32) : Option Int32 := if ht g x1 = 4 then (hr g x1 0).bind fun p2 => if ht g p2 = 105 then if inb x2 (hn g p2) = true then (hr g p2 (Int32.toNatClampNeg x2)).bind fun p5 => if ht g p5 = 5 then (f_X5_isGone g d p5).bind fun r7 => if r7 = 0 then (if ht g x0 = 1 then (hr g x0 6).bind fun p10 => if ht g p10 = 3 then (f_X3_isEnough n g d p10 x3 (hi d p5 1) (hi d p5 0) (hi d p5 5)).bind fun r12 => if r12 = 0 then (some (0 : Int32)) else (some (1 : Int32)) else none else none) else (some (0 : Int32)) else none else none else none else none
set_option maxHeartbeats 4000000 in
theorem w_X1_isSolvent_E {K : KT} {T : CT} {r : Int32} (n : Nat) (g : CG) (d : CD) (C : Kok K cX1_isSolvent 5 RX1) (B : CB K T) (hr : (kMe K).sig.returnType = (some .boolean)) (dK : kR K = rmC 5 0 0) (hQ : KQc K T (some (.int r)) 0 0 g d) (x0 : Nat) (x1 : Nat) (x2 : Int32) (x3 : Int32) (hf : f_X1_isSolvent n g d x0 x1 x2 x3 = some r) : XJ K 5 (Wc K T 0 0 g d) 0 [(0, .ref x0), (1, .ref x1), (2, .int x2), (3, .int x3)] [] := by
  unfold f_X1_isSolvent at hf
  refine x_aload_n C dX1_isSolvent_0 1 rfl ?_
  obtain ⟨t1, hf⟩ := pf_ch hf
  obtain ⟨p2, ep2, hf⟩ := pf_b hf
  refine cg4_0 C B t1 (fln B q451) fsm ep2 dX1_isSolvent_1 ?_
  refine x_iload_n C dX1_isSolvent_4 2 rfl ?_
  obtain ⟨t3, hf⟩ := pf_ch hf
  obtain ⟨h4, hf⟩ := pf_in hf
  obtain ⟨p5, ep5, hf⟩ := pf_b hf
  refine ca_ald5 C B t3 h4 ep5 dX1_isSolvent_5 ?_
  refine x_astore (L' := [(0, .ref x0), (3, .int x3), (4, .ref p5)]) C dX1_isSolvent_6 (Nat.le_of_ble_eq_true rfl) [1, 4, 0] rfl ?_
  refine x_aload C dX1_isSolvent_8 2 rfl ?_
  obtain ⟨t6, hf⟩ := pf_ch hf
  obtain ⟨r7, er7, hf⟩ := pf_b hf
  refine k_X5_isGone_X1 C B t6 dK (Nat.le_of_ble_eq_true rfl) cz er7 (Nat.le_of_ble_eq_true rfl) dX1_isSolvent_10 ?_
  refine x_if_ne (tgt := 46) C dX1_isSolvent_13 (by decide) (fun c8 => ?_) (fun c8 => ?_)
  · have hf := pf_f c8 hf
    refine x_iconst (0 : Int32) C dX1_isSolvent_46 (by decide) ?_
    obtain rfl := Option.some.inj hf
    exact c_zret C hr (Or.inl rfl) hQ dX1_isSolvent_47
  · have hf := pf_t c8 hf
    refine x_aload_n C dX1_isSolvent_16 0 rfl ?_
    obtain ⟨t9, hf⟩ := pf_ch hf
    obtain ⟨p10, ep10, hf⟩ := pf_b hf
    refine cg1_6 C B t9 (flo C q621) fsm ep10 dX1_isSolvent_17 ?_
    refine x_iload_n C dX1_isSolvent_20 1 rfl ?_
    refine x_aload C dX1_isSolvent_21 2 rfl ?_
    refine cg5_1 C B t6 (fln B q417) fsm dX1_isSolvent_23 ?_
    refine x_aload C dX1_isSolvent_26 2 rfl ?_
    refine cg5_0 C B t6 (fln B q412) fsm dX1_isSolvent_28 ?_
    refine x_aload C dX1_isSolvent_31 2 rfl ?_
    refine cg5_5 C B t6 (fln B q433) fsm dX1_isSolvent_33 ?_
    obtain ⟨t11, hf⟩ := pf_ch hf
    obtain ⟨r12, er12, hf⟩ := pf_b hf
    refine k_X3_isEnough_X1 C B t11 dK (Nat.le_of_ble_eq_true rfl) cz er12 (Nat.le_of_ble_eq_true rfl) dX1_isSolvent_36 ?_
    refine x_if_eq (tgt := 46) C dX1_isSolvent_39 (by decide) (fun c13 => ?_) (fun c13 => ?_)
    · have hf := pf_t c13 hf
      refine x_iconst (0 : Int32) C dX1_isSolvent_46 (by decide) ?_
      obtain rfl := Option.some.inj hf
      exact c_zret C hr (Or.inl rfl) hQ dX1_isSolvent_47
    · have hf := pf_f c13 hf
      refine x_iconst (1 : Int32) C dX1_isSolvent_42 (by decide) ?_
      refine x_goto (tgt := 47) C dX1_isSolvent_43 (by decide) ?_
      obtain rfl := Option.some.inj hf
      exact c_zret C hr (Or.inr rfl) hQ dX1_isSolvent_47
theorem bz_X1_isSolvent_E {r : Int32} {n : Nat} {g : CG} {d : CD} {x0 : Nat} {x1 : Nat} {x2 : Int32} {x3 : Int32} (hf : f_X1_isSolvent n g d x0 x1 x2 x3 = some r) : r = 0 ∨ r = 1 := by
  unfold f_X1_isSolvent at hf
  obtain ⟨t1, hf⟩ := pf_ch hf
  obtain ⟨p2, ep2, hf⟩ := pf_b hf
  obtain ⟨t3, hf⟩ := pf_ch hf
  obtain ⟨h4, hf⟩ := pf_in hf
  obtain ⟨p5, ep5, hf⟩ := pf_b hf
  obtain ⟨t6, hf⟩ := pf_ch hf
  obtain ⟨r7, er7, hf⟩ := pf_b hf
  by_cases c8 : r7 = 0
  · have hf := pf_t c8 hf
    obtain ⟨t9, hf⟩ := pf_ch hf
    obtain ⟨p10, ep10, hf⟩ := pf_b hf
    obtain ⟨t11, hf⟩ := pf_ch hf
    obtain ⟨r12, er12, hf⟩ := pf_b hf
    by_cases c13 : r12 = 0
    · have hf := pf_t c13 hf
      obtain rfl := Option.some.inj hf
      exact (Or.inl rfl)
    · have hf := pf_f c13 hf
      obtain rfl := Option.some.inj hf
      exact (Or.inr rfl)
  · have hf := pf_f c8 hf
    obtain rfl := Option.some.inj hf
    exact (Or.inl rfl)
theorem met_X1_isSolvent {T : CT} {v : Int32} {n : Nat} {g : CG} {d : CD} {x0 : Nat} {x1 : Nat} {x2 : Int32} {x3 : Int32} {l : Launch} (hf : f_X1_isSolvent n g d x0 x1 x2 x3 = some v) : Met l yX1_isSolvent (ws_ yX1_isSolvent cX1_isSolvent 5 (some .boolean)) (rmC 5 0 0) (va_Pc [.ref x0, .ref x1, .int x2, .int x3] (CU T g d)) (Qc T (some (.int v)) g d) 0 0 (cA T) :=
  c_met [.ref x0, .ref x1, .int x2, .int x3] RX1 (by decide) rfl (Nat.le_of_ble_eq_true rfl) (fun K hl hR hr C B hQ => w_X1_isSolvent_E _ _ _ C B hr hR hQ _ _ _ _ hf)
theorem k_X5_isGone_X18 {K : KT} {T : CT} {c0 s0 c1 s1 dk : Nat} {cc : ByteArray} {nL pc : Nat} {L : List (Nat × Value)} {rest : List Value} {g : CG} {d : CD} {v : Int32} {x0 : Nat} (C : Kok K cc nL RX18) (B : CB K T) (hta : ht g x0 = 5) (dK : kR K = rmC dk c1 s1) (hd : 2 + 1 ≤ dk) (hcs : c0 + 0 ≤ c1 ∧ s0 + 0 ≤ s1) (hf : f_X5_isGone g d x0 = some v) (hW : (rest.map fun v => v.category).sum ≤ 8) (dd : decode cc pc = .ok (.invokevirtual 28, 3)) (kk2 : XJ K nL (Wc K T c0 s0 g d) (pc + 3) L ((.int v) :: rest)) : XJ K nL (Wc K T c0 s0 g d) pc L (.ref x0 :: rest) :=
  c_callV (rest := rest) (v := (some (.int v))) [] 0 rfl C B hta (by decide) (by decide) rfl dK hd (Nat.le_of_ble_eq_true rfl) hcs (lw_V q1664 q1020 q1021 q127 q1022) (by decide +kernel) (met_X5_isGone hf) rfl hW dd kk2
theorem k_X1_all_X18 {K : KT} {T : CT} {c0 s0 c1 s1 dk : Nat} {cc : ByteArray} {nL pc : Nat} {L : List (Nat × Value)} {rest : List Value} {g : CG} {d : CD} {v : Int32} {x0 : Nat} (C : Kok K cc nL RX18) (B : CB K T) (hta : ht g x0 = 1) (dK : kR K = rmC dk c1 s1) (hd : 2 + 1 ≤ dk) (hcs : c0 + 0 ≤ c1 ∧ s0 + 0 ≤ s1) (hf : f_X1_all g d x0 = some v) (hW : (rest.map fun v => v.category).sum ≤ 8) (dd : decode cc pc = .ok (.invokevirtual 38, 3)) (kk2 : XJ K nL (Wc K T c0 s0 g d) (pc + 3) L ((.int v) :: rest)) : XJ K nL (Wc K T c0 s0 g d) pc L (.ref x0 :: rest) :=
  c_callVN (rest := rest) (v := (some (.int v))) [] 0 rfl C B hta (by decide) (by decide) rfl dK hd (Nat.le_of_ble_eq_true rfl) hcs (lw_meth q1141) q1665 q1140 qs17 q121 (by decide +kernel) (met_X1_all hf) rfl hW dd kk2
theorem k_X1_isSolvent_X18 {K : KT} {T : CT} {c0 s0 c1 s1 dk : Nat} {cc : ByteArray} {nL pc : Nat} {L : List (Nat × Value)} {rest : List Value} {g : CG} {d : CD} {v : Int32} {n : Nat} {x0 : Nat} {x1 : Nat} {x2 : Int32} {x3 : Int32} (C : Kok K cc nL RX18) (B : CB K T) (hta : ht g x0 = 1) (dK : kR K = rmC dk c1 s1) (hd : 5 + 1 ≤ dk) (hcs : c0 + 0 ≤ c1 ∧ s0 + 0 ≤ s1) (hf : f_X1_isSolvent n g d x0 x1 x2 x3 = some v) (hW : (rest.map fun v => v.category).sum ≤ 8) (dd : decode cc pc = .ok (.invokevirtual 42, 3)) (kk2 : XJ K nL (Wc K T c0 s0 g d) (pc + 3) L ((.int v) :: rest)) : XJ K nL (Wc K T c0 s0 g d) pc L (.int x3 :: .int x2 :: .ref x1 :: .ref x0 :: rest) :=
  c_callVN (rest := rest) (v := (some (.int v))) [.ref x1, .int x2, .int x3] 3 rfl C B hta (by decide) (by decide) rfl dK hd (Nat.le_of_ble_eq_true rfl) hcs (lw_meth q1145) q1666 q1144 qs18 q121 (by decide +kernel) (met_X1_isSolvent hf) rfl hW dd kk2
def f_X18_is (n : Nat) (g : CG) (d : CD) (x0 : Nat) (x1 : Nat) (x2 : Int32) : Option Int32 := if ht g x1 = 1 then (hr g x1 7).bind fun p2 => if ht g p2 = 4 then (hr g p2 0).bind fun p4 => if ht g p4 = 105 then if inb x2 (hn g p4) = true then (hr g p4 (Int32.toNatClampNeg x2)).bind fun p7 => if ht g x0 = 15 then if (hi d x0 0) = (0 : Int32) then (if ht g p7 = 5 then (f_X5_isGone g d p7).bind fun r14 => some r14 else none) else (if (hi d x0 0) = (1 : Int32) then (if ht g p7 = 5 then if ((hi d p7 5) = 0 ∨ (hi d p7 5) = 1) then some (hi d p7 5) else none else none) else (if (hi d x0 0) = (2 : Int32) then ((f_X1_all g d x1).bind fun r17 => (f_X1_isSolvent n g d x1 p2 x2 r17).bind fun r18 => some r18) else (if (hi d x0 0) = (3 : Int32) then (if ht g p7 = 5 then if (hi d p7 0) = (hi d x0 1) then (some (1 : Int32)) else (some (0 : Int32)) else none) else (if ht g p7 = 5 then if (hi d p7 1) = (hi d x0 1) then (some (1 : Int32)) else (some (0 : Int32)) else none)))) else none else none else none else none else none
set_option maxHeartbeats 4000000 in
theorem w_X18_is_E {K : KT} {T : CT} {r : Int32} (n : Nat) (g : CG) (d : CD) (C : Kok K cX18_is 4 RX18) (B : CB K T) (hr : (kMe K).sig.returnType = (some .boolean)) (dK : kR K = rmC 6 0 0) (hQ : KQc K T (some (.int r)) 0 0 g d) (x0 : Nat) (x1 : Nat) (x2 : Int32) (hf : f_X18_is n g d x0 x1 x2 = some r) : XJ K 4 (Wc K T 0 0 g d) 0 [(0, .ref x0), (1, .ref x1), (2, .int x2)] [] := by
  unfold f_X18_is at hf
  refine x_aload_n C dX18_is_0 1 rfl ?_
  obtain ⟨t1, hf⟩ := pf_ch hf
  obtain ⟨p2, ep2, hf⟩ := pf_b hf
  refine cg1_7 C B t1 (fln B q626) fsm ep2 dX18_is_1 ?_
  obtain ⟨t3, hf⟩ := pf_ch hf
  obtain ⟨p4, ep4, hf⟩ := pf_b hf
  refine cg4_0 C B t3 (fln B q449) fsm ep4 dX18_is_4 ?_
  refine x_iload_n C dX18_is_7 2 rfl ?_
  obtain ⟨t5, hf⟩ := pf_ch hf
  obtain ⟨h6, hf⟩ := pf_in hf
  obtain ⟨p7, ep7, hf⟩ := pf_b hf
  refine ca_ald5 C B t5 h6 ep7 dX18_is_8 ?_
  refine x_astore_n (L' := [(0, .ref x0), (1, .ref x1), (2, .int x2), (3, .ref p7)]) C dX18_is_9 (Nat.le_of_ble_eq_true rfl) [1, 2, 3, 0] rfl ?_
  refine x_aload_n C dX18_is_10 0 rfl ?_
  obtain ⟨t8, hf⟩ := pf_ch hf
  refine cg15_0 C B t8 (flo C q1577) fsm dX18_is_11 ?_
  by_cases c9 : (hi d x0 0) = (0 : Int32)
  · have hf := pf_t c9 hf
    refine x_tableIn (off := 30) (tgt := 44) C dX18_is_14 (by rw [c9]; decide) (by rw [c9]; decide) (by rw [c9]; decide) (by decide) ?_
    refine x_aload_n C dX18_is_44 3 rfl ?_
    obtain ⟨t13, hf⟩ := pf_ch hf
    obtain ⟨r14, er14, hf⟩ := pf_b hf
    refine k_X5_isGone_X18 C B t13 dK (Nat.le_of_ble_eq_true rfl) cz er14 (Nat.le_of_ble_eq_true rfl) dX18_is_45 ?_
    obtain rfl := Option.some.inj hf
    exact c_zret C hr (bz_X5_isGone_E er14) hQ dX18_is_48
  · have hf := pf_f c9 hf
    by_cases c10 : (hi d x0 0) = (1 : Int32)
    · have hf := pf_t c10 hf
      refine x_tableIn (off := 35) (tgt := 49) C dX18_is_14 (by rw [c10]; decide) (by rw [c10]; decide) (by rw [c10]; decide) (by decide) ?_
      refine x_aload_n C dX18_is_49 3 rfl ?_
      obtain ⟨t15, hf⟩ := pf_ch hf
      refine cg5_5 C B t15 (fln B q431) fsm dX18_is_50 ?_
      obtain ⟨z16, hf⟩ := pf_ch hf
      obtain rfl := Option.some.inj hf
      exact c_zret C hr z16 hQ dX18_is_53
    · have hf := pf_f c10 hf
      by_cases c11 : (hi d x0 0) = (2 : Int32)
      · have hf := pf_t c11 hf
        refine x_tableIn (off := 40) (tgt := 54) C dX18_is_14 (by rw [c11]; decide) (by rw [c11]; decide) (by rw [c11]; decide) (by decide) ?_
        refine x_aload_n C dX18_is_54 1 rfl ?_
        refine x_aload_n C dX18_is_55 1 rfl ?_
        refine cg1_7 C B t1 (fln B q626) fsm ep2 dX18_is_56 ?_
        refine x_iload_n C dX18_is_59 2 rfl ?_
        refine x_aload_n C dX18_is_60 1 rfl ?_
        obtain ⟨r17, er17, hf⟩ := pf_b hf
        refine k_X1_all_X18 C B t1 dK (Nat.le_of_ble_eq_true rfl) cz er17 (Nat.le_of_ble_eq_true rfl) dX18_is_61 ?_
        obtain ⟨r18, er18, hf⟩ := pf_b hf
        refine k_X1_isSolvent_X18 C B t1 dK (Nat.le_of_ble_eq_true rfl) cz er18 (Nat.le_of_ble_eq_true rfl) dX18_is_64 ?_
        obtain rfl := Option.some.inj hf
        exact c_zret C hr (bz_X1_isSolvent_E er18) hQ dX18_is_67
      · have hf := pf_f c11 hf
        by_cases c12 : (hi d x0 0) = (3 : Int32)
        · have hf := pf_t c12 hf
          refine x_tableIn (off := 54) (tgt := 68) C dX18_is_14 (by rw [c12]; decide) (by rw [c12]; decide) (by rw [c12]; decide) (by decide) ?_
          refine x_aload_n C dX18_is_68 3 rfl ?_
          obtain ⟨t19, hf⟩ := pf_ch hf
          refine cg5_0 C B t19 (fln B q410) fsm dX18_is_69 ?_
          refine x_aload_n C dX18_is_72 0 rfl ?_
          refine cg15_1 C B t8 (flo C q1578) fsm dX18_is_73 ?_
          refine x_icmp_ne (tgt := 83) C dX18_is_76 (by decide) (fun c20 => ?_) (fun c20 => ?_)
          · have hf := pf_f c20 hf
            refine x_iconst (0 : Int32) C dX18_is_83 (by decide) ?_
            obtain rfl := Option.some.inj hf
            exact c_zret C hr (Or.inl rfl) hQ dX18_is_84
          · have hf := pf_t c20 hf
            refine x_iconst (1 : Int32) C dX18_is_79 (by decide) ?_
            refine x_goto (tgt := 84) C dX18_is_80 (by decide) ?_
            obtain rfl := Option.some.inj hf
            exact c_zret C hr (Or.inr rfl) hQ dX18_is_84
        · have hf := pf_f c12 hf
          refine x_tableOut (tgt := 85) C dX18_is_14 (by have := lv_neT c9 (show (0 : Int32).toInt = (0 : Int) by decide); have := lv_neT c10 (show (1 : Int32).toInt = (1 : Int) by decide); have := lv_neT c11 (show (2 : Int32).toInt = (2 : Int) by decide); have := lv_neT c12 (show (3 : Int32).toInt = (3 : Int) by decide); omega) (by decide) ?_
          refine x_aload_n C dX18_is_85 3 rfl ?_
          obtain ⟨t21, hf⟩ := pf_ch hf
          refine cg5_1 C B t21 (fln B q414) fsm dX18_is_86 ?_
          refine x_aload_n C dX18_is_89 0 rfl ?_
          refine cg15_1 C B t8 (flo C q1578) fsm dX18_is_90 ?_
          refine x_icmp_ne (tgt := 100) C dX18_is_93 (by decide) (fun c22 => ?_) (fun c22 => ?_)
          · have hf := pf_f c22 hf
            refine x_iconst (0 : Int32) C dX18_is_100 (by decide) ?_
            obtain rfl := Option.some.inj hf
            exact c_zret C hr (Or.inl rfl) hQ dX18_is_101
          · have hf := pf_t c22 hf
            refine x_iconst (1 : Int32) C dX18_is_96 (by decide) ?_
            refine x_goto (tgt := 101) C dX18_is_97 (by decide) ?_
            obtain rfl := Option.some.inj hf
            exact c_zret C hr (Or.inr rfl) hQ dX18_is_101
theorem bz_X18_is_E {r : Int32} {n : Nat} {g : CG} {d : CD} {x0 : Nat} {x1 : Nat} {x2 : Int32} (hf : f_X18_is n g d x0 x1 x2 = some r) : r = 0 ∨ r = 1 := by
  unfold f_X18_is at hf
  obtain ⟨t1, hf⟩ := pf_ch hf
  obtain ⟨p2, ep2, hf⟩ := pf_b hf
  obtain ⟨t3, hf⟩ := pf_ch hf
  obtain ⟨p4, ep4, hf⟩ := pf_b hf
  obtain ⟨t5, hf⟩ := pf_ch hf
  obtain ⟨h6, hf⟩ := pf_in hf
  obtain ⟨p7, ep7, hf⟩ := pf_b hf
  obtain ⟨t8, hf⟩ := pf_ch hf
  by_cases c9 : (hi d x0 0) = (0 : Int32)
  · have hf := pf_t c9 hf
    obtain ⟨t13, hf⟩ := pf_ch hf
    obtain ⟨r14, er14, hf⟩ := pf_b hf
    obtain rfl := Option.some.inj hf
    exact (bz_X5_isGone_E er14)
  · have hf := pf_f c9 hf
    by_cases c10 : (hi d x0 0) = (1 : Int32)
    · have hf := pf_t c10 hf
      obtain ⟨t15, hf⟩ := pf_ch hf
      obtain ⟨z16, hf⟩ := pf_ch hf
      obtain rfl := Option.some.inj hf
      exact z16
    · have hf := pf_f c10 hf
      by_cases c11 : (hi d x0 0) = (2 : Int32)
      · have hf := pf_t c11 hf
        obtain ⟨r17, er17, hf⟩ := pf_b hf
        obtain ⟨r18, er18, hf⟩ := pf_b hf
        obtain rfl := Option.some.inj hf
        exact (bz_X1_isSolvent_E er18)
      · have hf := pf_f c11 hf
        by_cases c12 : (hi d x0 0) = (3 : Int32)
        · have hf := pf_t c12 hf
          obtain ⟨t19, hf⟩ := pf_ch hf
          by_cases c20 : (hi d p7 0) = (hi d x0 1)
          · have hf := pf_t c20 hf
            obtain rfl := Option.some.inj hf
            exact (Or.inr rfl)
          · have hf := pf_f c20 hf
            obtain rfl := Option.some.inj hf
            exact (Or.inl rfl)
        · have hf := pf_f c12 hf
          obtain ⟨t21, hf⟩ := pf_ch hf
          by_cases c22 : (hi d p7 1) = (hi d x0 1)
          · have hf := pf_t c22 hf
            obtain rfl := Option.some.inj hf
            exact (Or.inr rfl)
          · have hf := pf_f c22 hf
            obtain rfl := Option.some.inj hf
            exact (Or.inl rfl)
theorem met_X18_is {T : CT} {v : Int32} {n : Nat} {g : CG} {d : CD} {x0 : Nat} {x1 : Nat} {x2 : Int32} {l : Launch} (hf : f_X18_is n g d x0 x1 x2 = some v) : Met l yX18_is (ws_ yX18_is cX18_is 4 (some .boolean)) (rmC 6 0 0) (va_Pc [.ref x0, .ref x1, .int x2] (CU T g d)) (Qc T (some (.int v)) g d) 0 0 (cA T) :=
  c_met [.ref x0, .ref x1, .int x2] RX18 (by decide) rfl (Nat.le_of_ble_eq_true rfl) (fun K hl hR hr C B hQ => w_X18_is_E _ _ _ C B hr hR hQ _ _ _ hf)
def f_X19_is_L55 (g : CG) (d : CD) (x0 : Nat) (y0 : Int32) : Option Int32 := if ht g x0 = 16 then if (hi d x0 1) = (60 : Int32) then (if (hi d x0 2) ≤ y0 then (some (0 : Int32)) else (some (1 : Int32))) else (if (hi d x0 1) = (61 : Int32) then (if y0 = (hi d x0 2) then (some (1 : Int32)) else (some (0 : Int32))) else (if y0 ≤ (hi d x0 2) then (some (0 : Int32)) else (some (1 : Int32)))) else none
set_option maxHeartbeats 4000000 in
theorem w_X19_is_55 {K : KT} {T : CT} {r : Int32} (g : CG) (d : CD) (C : Kok K cX19_is 5 RX19) (B : CB K T) (hr : (kMe K).sig.returnType = (some .boolean)) (dK : kR K = rmC 2 0 0) (hQ : KQc K T (some (.int r)) 0 0 g d) (x0 : Nat) (y0 : Int32) (hf : f_X19_is_L55 g d x0 y0 = some r) : XJ K 5 (Wc K T 0 0 g d) 55 [(0, .ref x0)] [.int y0] := by
  unfold f_X19_is_L55 at hf
  refine x_istore (L' := [(0, .ref x0), (4, .int y0)]) C dX19_is_55 (Nat.le_of_ble_eq_true rfl) [1, 0] rfl ?_
  refine x_aload_n C dX19_is_57 0 rfl ?_
  obtain ⟨t1, hf⟩ := pf_ch hf
  refine cg16_1 C B t1 (flo C q1591) fsm dX19_is_58 ?_
  refine x_bipush (60 : Int32) C dX19_is_61 (by decide) ?_
  refine x_icmp_ne (tgt := 83) C dX19_is_63 (by decide) (fun c2 => ?_) (fun c2 => ?_)
  · have hf := pf_f c2 hf
    refine x_aload_n C dX19_is_83 0 rfl ?_
    refine cg16_1 C B t1 (flo C q1591) fsm dX19_is_84 ?_
    refine x_bipush (61 : Int32) C dX19_is_87 (by decide) ?_
    refine x_icmp_ne (tgt := 109) C dX19_is_89 (by decide) (fun c3 => ?_) (fun c3 => ?_)
    · have hf := pf_f c3 hf
      refine x_iload C dX19_is_109 1 rfl ?_
      refine x_aload_n C dX19_is_111 0 rfl ?_
      refine cg16_2 C B t1 (flo C q1592) fsm dX19_is_112 ?_
      refine x_icmp_le (tgt := 122) C dX19_is_115 (by decide) (fun c4 => ?_) (fun c4 => ?_)
      · have hf := pf_t c4 hf
        refine x_iconst (0 : Int32) C dX19_is_122 (by decide) ?_
        obtain rfl := Option.some.inj hf
        exact c_zret C hr (Or.inl rfl) hQ dX19_is_123
      · have hf := pf_f c4 hf
        refine x_iconst (1 : Int32) C dX19_is_118 (by decide) ?_
        refine x_goto (tgt := 123) C dX19_is_119 (by decide) ?_
        obtain rfl := Option.some.inj hf
        exact c_zret C hr (Or.inr rfl) hQ dX19_is_123
    · have hf := pf_t c3 hf
      refine x_iload C dX19_is_92 1 rfl ?_
      refine x_aload_n C dX19_is_94 0 rfl ?_
      refine cg16_2 C B t1 (flo C q1592) fsm dX19_is_95 ?_
      refine x_icmp_ne (tgt := 105) C dX19_is_98 (by decide) (fun c5 => ?_) (fun c5 => ?_)
      · have hf := pf_f c5 hf
        refine x_iconst (0 : Int32) C dX19_is_105 (by decide) ?_
        refine x_goto (tgt := 123) C dX19_is_106 (by decide) ?_
        obtain rfl := Option.some.inj hf
        exact c_zret C hr (Or.inl rfl) hQ dX19_is_123
      · have hf := pf_t c5 hf
        refine x_iconst (1 : Int32) C dX19_is_101 (by decide) ?_
        refine x_goto (tgt := 123) C dX19_is_102 (by decide) ?_
        obtain rfl := Option.some.inj hf
        exact c_zret C hr (Or.inr rfl) hQ dX19_is_123
  · have hf := pf_t c2 hf
    refine x_iload C dX19_is_66 1 rfl ?_
    refine x_aload_n C dX19_is_68 0 rfl ?_
    refine cg16_2 C B t1 (flo C q1592) fsm dX19_is_69 ?_
    refine x_icmp_ge (tgt := 79) C dX19_is_72 (by decide) (fun c6 => ?_) (fun c6 => ?_)
    · have hf := pf_t c6 hf
      refine x_iconst (0 : Int32) C dX19_is_79 (by decide) ?_
      refine x_goto (tgt := 123) C dX19_is_80 (by decide) ?_
      obtain rfl := Option.some.inj hf
      exact c_zret C hr (Or.inl rfl) hQ dX19_is_123
    · have hf := pf_f c6 hf
      refine x_iconst (1 : Int32) C dX19_is_75 (by decide) ?_
      refine x_goto (tgt := 123) C dX19_is_76 (by decide) ?_
      obtain rfl := Option.some.inj hf
      exact c_zret C hr (Or.inr rfl) hQ dX19_is_123
theorem bz_X19_is_55 {r : Int32} {g : CG} {d : CD} {x0 : Nat} {y0 : Int32} (hf : f_X19_is_L55 g d x0 y0 = some r) : r = 0 ∨ r = 1 := by
  unfold f_X19_is_L55 at hf
  obtain ⟨t1, hf⟩ := pf_ch hf
  by_cases c2 : (hi d x0 1) = (60 : Int32)
  · have hf := pf_t c2 hf
    by_cases c6 : (hi d x0 2) ≤ y0
    · have hf := pf_t c6 hf
      obtain rfl := Option.some.inj hf
      exact (Or.inl rfl)
    · have hf := pf_f c6 hf
      obtain rfl := Option.some.inj hf
      exact (Or.inr rfl)
  · have hf := pf_f c2 hf
    by_cases c3 : (hi d x0 1) = (61 : Int32)
    · have hf := pf_t c3 hf
      by_cases c5 : y0 = (hi d x0 2)
      · have hf := pf_t c5 hf
        obtain rfl := Option.some.inj hf
        exact (Or.inr rfl)
      · have hf := pf_f c5 hf
        obtain rfl := Option.some.inj hf
        exact (Or.inl rfl)
    · have hf := pf_f c3 hf
      by_cases c4 : y0 ≤ (hi d x0 2)
      · have hf := pf_t c4 hf
        obtain rfl := Option.some.inj hf
        exact (Or.inl rfl)
      · have hf := pf_f c4 hf
        obtain rfl := Option.some.inj hf
        exact (Or.inr rfl)
def f_X19_is (g : CG) (d : CD) (x0 : Nat) (x1 : Nat) (x2 : Int32) : Option Int32 := if ht g x1 = 1 then (hr g x1 7).bind fun p2 => if ht g p2 = 4 then (hr g p2 0).bind fun p4 => if ht g p4 = 105 then if inb x2 (hn g p4) = true then (hr g p4 (Int32.toNatClampNeg x2)).bind fun p7 => if ht g x0 = 16 then if (hi d x0 0) = 0 then (if ht g p7 = 5 then f_X19_is_L55 g d x0 (hi d p7 2) else none) else (if (hi d x0 0) = (1 : Int32) then (if ht g p7 = 5 then f_X19_is_L55 g d x0 (hi d p7 3) else none) else (if (hi d x0 0) = (2 : Int32) then (if ht g p7 = 5 then f_X19_is_L55 g d x0 (hi d p7 4) else none) else (f_X19_is_L55 g d x0 x2))) else none else none else none else none else none
set_option maxHeartbeats 4000000 in
theorem w_X19_is_E {K : KT} {T : CT} {r : Int32} (g : CG) (d : CD) (C : Kok K cX19_is 5 RX19) (B : CB K T) (hr : (kMe K).sig.returnType = (some .boolean)) (dK : kR K = rmC 2 0 0) (hQ : KQc K T (some (.int r)) 0 0 g d) (x0 : Nat) (x1 : Nat) (x2 : Int32) (hf : f_X19_is g d x0 x1 x2 = some r) : XJ K 5 (Wc K T 0 0 g d) 0 [(0, .ref x0), (1, .ref x1), (2, .int x2)] [] := by
  unfold f_X19_is at hf
  refine x_aload_n C dX19_is_0 1 rfl ?_
  obtain ⟨t1, hf⟩ := pf_ch hf
  obtain ⟨p2, ep2, hf⟩ := pf_b hf
  refine cg1_7 C B t1 (fln B q625) fsm ep2 dX19_is_1 ?_
  obtain ⟨t3, hf⟩ := pf_ch hf
  obtain ⟨p4, ep4, hf⟩ := pf_b hf
  refine cg4_0 C B t3 (fln B q448) fsm ep4 dX19_is_4 ?_
  refine x_iload_n C dX19_is_7 2 rfl ?_
  obtain ⟨t5, hf⟩ := pf_ch hf
  obtain ⟨h6, hf⟩ := pf_in hf
  obtain ⟨p7, ep7, hf⟩ := pf_b hf
  refine ca_ald5 C B t5 h6 ep7 dX19_is_8 ?_
  refine x_astore_n (L' := [(0, .ref x0), (2, .int x2), (3, .ref p7)]) C dX19_is_9 (Nat.le_of_ble_eq_true rfl) [1, 3, 0] rfl ?_
  refine x_aload_n C dX19_is_10 0 rfl ?_
  obtain ⟨t8, hf⟩ := pf_ch hf
  refine cg16_0 C B t8 (flo C q1590) fsm dX19_is_11 ?_
  refine x_if_ne (tgt := 24) C dX19_is_14 (by decide) (fun c9 => ?_) (fun c9 => ?_)
  · have hf := pf_f c9 hf
    refine x_aload_n C dX19_is_24 0 rfl ?_
    refine cg16_0 C B t8 (flo C q1590) fsm dX19_is_25 ?_
    refine x_iconst (1 : Int32) C dX19_is_28 (by decide) ?_
    refine x_icmp_ne (tgt := 39) C dX19_is_29 (by decide) (fun c10 => ?_) (fun c10 => ?_)
    · have hf := pf_f c10 hf
      refine x_aload_n C dX19_is_39 0 rfl ?_
      refine cg16_0 C B t8 (flo C q1590) fsm dX19_is_40 ?_
      refine x_iconst (2 : Int32) C dX19_is_43 (by decide) ?_
      refine x_icmp_ne (tgt := 54) C dX19_is_44 (by decide) (fun c11 => ?_) (fun c11 => ?_)
      · have hf := pf_f c11 hf
        refine x_iload_n C dX19_is_54 1 rfl ?_
        refine x_sub [0] (L' := [(0, .ref x0)]) rfl ?_
        exact w_X19_is_55 g d C B hr dK hQ x0 x2 hf
      · have hf := pf_t c11 hf
        refine x_aload_n C dX19_is_47 2 rfl ?_
        obtain ⟨t12, hf⟩ := pf_ch hf
        refine cg5_4 C B t12 (fln B q427) fsm dX19_is_48 ?_
        refine x_goto (tgt := 55) C dX19_is_51 (by decide) ?_
        refine x_sub [0] (L' := [(0, .ref x0)]) rfl ?_
        exact w_X19_is_55 g d C B hr dK hQ x0 (hi d p7 4) hf
    · have hf := pf_t c10 hf
      refine x_aload_n C dX19_is_32 2 rfl ?_
      obtain ⟨t13, hf⟩ := pf_ch hf
      refine cg5_3 C B t13 (fln B q423) fsm dX19_is_33 ?_
      refine x_goto (tgt := 55) C dX19_is_36 (by decide) ?_
      refine x_sub [0] (L' := [(0, .ref x0)]) rfl ?_
      exact w_X19_is_55 g d C B hr dK hQ x0 (hi d p7 3) hf
  · have hf := pf_t c9 hf
    refine x_aload_n C dX19_is_17 2 rfl ?_
    obtain ⟨t14, hf⟩ := pf_ch hf
    refine cg5_2 C B t14 (fln B q419) fsm dX19_is_18 ?_
    refine x_goto (tgt := 55) C dX19_is_21 (by decide) ?_
    refine x_sub [0] (L' := [(0, .ref x0)]) rfl ?_
    exact w_X19_is_55 g d C B hr dK hQ x0 (hi d p7 2) hf
theorem bz_X19_is_E {r : Int32} {g : CG} {d : CD} {x0 : Nat} {x1 : Nat} {x2 : Int32} (hf : f_X19_is g d x0 x1 x2 = some r) : r = 0 ∨ r = 1 := by
  unfold f_X19_is at hf
  obtain ⟨t1, hf⟩ := pf_ch hf
  obtain ⟨p2, ep2, hf⟩ := pf_b hf
  obtain ⟨t3, hf⟩ := pf_ch hf
  obtain ⟨p4, ep4, hf⟩ := pf_b hf
  obtain ⟨t5, hf⟩ := pf_ch hf
  obtain ⟨h6, hf⟩ := pf_in hf
  obtain ⟨p7, ep7, hf⟩ := pf_b hf
  obtain ⟨t8, hf⟩ := pf_ch hf
  by_cases c9 : (hi d x0 0) = 0
  · have hf := pf_t c9 hf
    obtain ⟨t14, hf⟩ := pf_ch hf
    exact bz_X19_is_55 hf
  · have hf := pf_f c9 hf
    by_cases c10 : (hi d x0 0) = (1 : Int32)
    · have hf := pf_t c10 hf
      obtain ⟨t13, hf⟩ := pf_ch hf
      exact bz_X19_is_55 hf
    · have hf := pf_f c10 hf
      by_cases c11 : (hi d x0 0) = (2 : Int32)
      · have hf := pf_t c11 hf
        obtain ⟨t12, hf⟩ := pf_ch hf
        exact bz_X19_is_55 hf
      · have hf := pf_f c11 hf
        exact bz_X19_is_55 hf
theorem met_X19_is {T : CT} {v : Int32} {g : CG} {d : CD} {x0 : Nat} {x1 : Nat} {x2 : Int32} {l : Launch} (hf : f_X19_is g d x0 x1 x2 = some v) : Met l yX19_is (ws_ yX19_is cX19_is 5 (some .boolean)) (rmC 2 0 0) (va_Pc [.ref x0, .ref x1, .int x2] (CU T g d)) (Qc T (some (.int v)) g d) 0 0 (cA T) :=
  c_met [.ref x0, .ref x1, .int x2] RX19 (by decide) rfl (Nat.le_of_ble_eq_true rfl) (fun K hl hR hr C B hQ => w_X19_is_E _ _ C B hr hR hQ _ _ _ hf)
def f_X1_isIn (x0 : Int32) (x1 : Int32) (x2 : Int32) : Int32 := if x0 < x1 then ((0 : Int32)) else (if x2 < x0 then ((0 : Int32)) else ((1 : Int32)))
set_option maxHeartbeats 4000000 in
theorem w_X1_isIn_E {K : KT} {T : CT} {r : Int32} {g : CG} {d : CD} (C : Kok K cX1_isIn 3 RX1) (B : CB K T) (hr : (kMe K).sig.returnType = (some .boolean)) (dK : kR K = rmC 2 0 0) (hQ : KQc K T (some (.int r)) 0 0 g d) (x0 : Int32) (x1 : Int32) (x2 : Int32) (hf : f_X1_isIn x0 x1 x2 = r) : XJ K 3 (Wc K T 0 0 g d) 0 [(0, .int x0), (1, .int x1), (2, .int x2)] [] := by
  unfold f_X1_isIn at hf
  refine x_iload_n C dX1_isIn_0 0 rfl ?_
  refine x_iload_n C dX1_isIn_1 1 rfl ?_
  refine x_icmp_lt (tgt := 14) C dX1_isIn_2 (by decide) (fun c1 => ?_) (fun c1 => ?_)
  · have hf := pf_t c1 hf
    refine x_iconst (0 : Int32) C dX1_isIn_14 (by decide) ?_
    subst hf
    exact c_zret C hr (Or.inl rfl) hQ dX1_isIn_15
  · have hf := pf_f c1 hf
    refine x_iload_n C dX1_isIn_5 0 rfl ?_
    refine x_iload_n C dX1_isIn_6 2 rfl ?_
    refine x_icmp_gt (tgt := 14) C dX1_isIn_7 (by decide) (fun c2 => ?_) (fun c2 => ?_)
    · have hf := pf_t c2 hf
      refine x_iconst (0 : Int32) C dX1_isIn_14 (by decide) ?_
      subst hf
      exact c_zret C hr (Or.inl rfl) hQ dX1_isIn_15
    · have hf := pf_f c2 hf
      refine x_iconst (1 : Int32) C dX1_isIn_10 (by decide) ?_
      refine x_goto (tgt := 15) C dX1_isIn_11 (by decide) ?_
      subst hf
      exact c_zret C hr (Or.inr rfl) hQ dX1_isIn_15
theorem bz_X1_isIn_E {r : Int32} {x0 : Int32} {x1 : Int32} {x2 : Int32} (hf : f_X1_isIn x0 x1 x2 = r) : r = 0 ∨ r = 1 := by
  unfold f_X1_isIn at hf
  by_cases c1 : x0 < x1
  · have hf := pf_t c1 hf
    subst hf
    exact (Or.inl rfl)
  · have hf := pf_f c1 hf
    by_cases c2 : x2 < x0
    · have hf := pf_t c2 hf
      subst hf
      exact (Or.inl rfl)
    · have hf := pf_f c2 hf
      subst hf
      exact (Or.inr rfl)
theorem met_X1_isIn {T : CT} {v : Int32} {g : CG} {d : CD} {x0 : Int32} {x1 : Int32} {x2 : Int32} {l : Launch} (hf : f_X1_isIn x0 x1 x2 = v) : Met l yX1_isIn (ws_ yX1_isIn cX1_isIn 3 (some .boolean)) (rmC 2 0 0) (va_Pc [.int x0, .int x1, .int x2] (CU T g d)) (Qc T (some (.int v)) g d) 0 0 (cA T) :=
  c_met [.int x0, .int x1, .int x2] RX1 (by decide) rfl (Nat.le_of_ble_eq_true rfl) (fun K hl hR hr C B hQ => w_X1_isIn_E C B hr hR hQ _ _ _ hf)
def f_X5_be (g : CG) (x0 : Nat) (x1 : Nat) (d : CD) : Option CD := if ht g x1 = 5 then if ht g x0 = 5 then ev (wi d x0 0 (hi d x1 0)) fun s3 => ev (wi s3 x0 1 (hi s3 x1 1)) fun s4 => ev (wi s4 x0 2 (hi s4 x1 2)) fun s5 => ev (wi s5 x0 3 (hi s5 x1 3)) fun s6 => ev (wi s6 x0 4 (hi s6 x1 4)) fun s7 => if ((hi s7 x1 5) = 0 ∨ (hi s7 x1 5) = 1) then ev (wi s7 x0 5 (hi s7 x1 5)) fun s9 => some s9 else none else none else none
set_option maxHeartbeats 4000000 in
theorem w_X5_be_E {K : KT} {T : CT} {τ : CD} (g : CG) (C : Kok K cX5_be 2 RX5) (B : CB K T) (hr : (kMe K).sig.returnType = none) (dK : kR K = rmC 2 0 0) (hQ : KQc K T none 0 0 g τ) (x0 : Nat) (x1 : Nat) (d : CD) (hf : f_X5_be g x0 x1 d = some τ) : XJ K 2 (Wc K T 0 0 g d) 0 [(0, .ref x0), (1, .ref x1)] [] := by
  unfold f_X5_be at hf
  refine x_aload_n C dX5_be_0 0 rfl ?_
  refine x_aload_n C dX5_be_1 1 rfl ?_
  obtain ⟨t1, hf⟩ := pf_ch hf
  refine cg5_0 C B t1 (flo C q409) fsm dX5_be_2 ?_
  obtain ⟨t2, hf⟩ := pf_ch hf
  refine cp5_0 C B t2 (flo C q409) fsm dX5_be_5 ?_
  obtain ⟨s3, es3, hf⟩ := pf_e hf
  refine c_ren es3 ?_
  refine x_aload_n C dX5_be_8 0 rfl ?_
  refine x_aload_n C dX5_be_9 1 rfl ?_
  refine cg5_1 C B t1 (flo C q413) fsm dX5_be_10 ?_
  refine cp5_1 C B t2 (flo C q413) fsm dX5_be_13 ?_
  obtain ⟨s4, es4, hf⟩ := pf_e hf
  refine c_ren es4 ?_
  refine x_aload_n C dX5_be_16 0 rfl ?_
  refine x_aload_n C dX5_be_17 1 rfl ?_
  refine cg5_2 C B t1 (flo C q418) fsm dX5_be_18 ?_
  refine cp5_2 C B t2 (flo C q418) fsm dX5_be_21 ?_
  obtain ⟨s5, es5, hf⟩ := pf_e hf
  refine c_ren es5 ?_
  refine x_aload_n C dX5_be_24 0 rfl ?_
  refine x_aload_n C dX5_be_25 1 rfl ?_
  refine cg5_3 C B t1 (flo C q422) fsm dX5_be_26 ?_
  refine cp5_3 C B t2 (flo C q422) fsm dX5_be_29 ?_
  obtain ⟨s6, es6, hf⟩ := pf_e hf
  refine c_ren es6 ?_
  refine x_aload_n C dX5_be_32 0 rfl ?_
  refine x_aload_n C dX5_be_33 1 rfl ?_
  refine cg5_4 C B t1 (flo C q426) fsm dX5_be_34 ?_
  refine cp5_4 C B t2 (flo C q426) fsm dX5_be_37 ?_
  obtain ⟨s7, es7, hf⟩ := pf_e hf
  refine c_ren es7 ?_
  refine x_aload_n C dX5_be_40 0 rfl ?_
  refine x_aload_n C dX5_be_41 1 rfl ?_
  refine cg5_5 C B t1 (flo C q430) fsm dX5_be_42 ?_
  obtain ⟨z8, hf⟩ := pf_ch hf
  refine cp5_5 C B t2 (flo C q430) fsm z8 dX5_be_45 ?_
  obtain ⟨s9, es9, hf⟩ := pf_e hf
  refine c_ren es9 ?_
  obtain rfl := Option.some.inj hf
  exact c_vret C hr hQ dX5_be_48
theorem met_X5_be {T : CT} {v : CD} {g : CG} {d : CD} {x0 : Nat} {x1 : Nat} {l : Launch} (hf : f_X5_be g x0 x1 d = some v) : Met l yX5_be (ws_ yX5_be cX5_be 2 none) (rmC 2 0 0) (va_Pc [.ref x0, .ref x1] (CU T g d)) (Qc T none g v) 0 0 (cA T) :=
  c_met [.ref x0, .ref x1] RX5 (by decide) rfl (Nat.le_of_ble_eq_true rfl) (fun K hl hR hr C B hQ => w_X5_be_E _ C B hr hR hQ _ _ _ hf)
theorem k_X5_be_X4 {K : KT} {T : CT} {c0 s0 c1 s1 dk : Nat} {cc : ByteArray} {nL pc : Nat} {L : List (Nat × Value)} {rest : List Value} {g : CG} {d : CD} {v : CD} {x0 : Nat} {x1 : Nat} (C : Kok K cc nL RX4) (B : CB K T) (hta : ht g x0 = 5) (dK : kR K = rmC dk c1 s1) (hd : 2 + 1 ≤ dk) (hcs : c0 + 0 ≤ c1 ∧ s0 + 0 ≤ s1) (hf : f_X5_be g x0 x1 d = some v) (hW : (rest.map fun v => v.category).sum ≤ 8) (dd : decode cc pc = .ok (.invokevirtual 28, 3)) (kk2 : XJ K nL (Wc K T c0 s0 g v) (pc + 3) L (rest)) : XJ K nL (Wc K T c0 s0 g d) pc L (.ref x1 :: .ref x0 :: rest) :=
  c_callV (rest := rest) (v := none) [.ref x1] 1 rfl C B hta (by decide) (by decide) rfl dK hd (Nat.le_of_ble_eq_true rfl) hcs (lw_V q1031 q1032 q1033 q127 q1034) (by decide +kernel) (met_X5_be hf) rfl hW dd kk2
def f_X4_be_L2 (n : Nat) (g : CG) : Nat → Nat → Nat → Int32 → CD → Option CD
  | 0, _, _, _, _ => none
  | m + 1, x0, x1, x2, d => if (8 : Int32) ≤ x2 then (if ht g x1 = 4 then (hr g x1 1).bind fun p3 => if ht g x0 = 4 then (hr g x0 1).bind fun p5 => if ht g p5 = 100 then if ht g p3 = 100 then if cpok (0 : Int32) (0 : Int32) (Int32.ofNat (hn g p5)) (hn g p3) (hn g p5) = true then ev (wa d p5 (va_cpy (hi d p3) (hi d p5) (Int32.toNatClampNeg (0 : Int32)) (Int32.toNatClampNeg (0 : Int32)) (Int32.toNatClampNeg (Int32.ofNat (hn g p5))))) fun s9 => (hr g x1 2).bind fun p10 => (hr g x0 2).bind fun p11 => if ht g p10 = 100 then if ht g p11 = 100 then if cpok (0 : Int32) (0 : Int32) (8 : Int32) (hn g p10) (hn g p11) = true then ev (wa s9 p11 (va_cpy (hi s9 p10) (hi s9 p11) (Int32.toNatClampNeg (0 : Int32)) (Int32.toNatClampNeg (0 : Int32)) (Int32.toNatClampNeg (8 : Int32)))) fun s15 => ev (wi s15 x0 4 (hi s15 x1 4)) fun s16 => ev (wi s16 x0 5 (hi s16 x1 5)) fun s17 => some s17 else none else none else none else none else none else none else none else none) else (if ht g x0 = 4 then (hr g x0 0).bind fun p19 => if ht g p19 = 105 then if inb x2 (hn g p19) = true then (hr g p19 (Int32.toNatClampNeg x2)).bind fun p22 => if ht g x1 = 4 then (hr g x1 0).bind fun p24 => if ht g p24 = 105 then if inb x2 (hn g p24) = true then (hr g p24 (Int32.toNatClampNeg x2)).bind fun p27 => if ht g p22 = 5 then (f_X5_be g p22 p27 d).bind fun r29 => f_X4_be_L2 n g m x0 x1 (x2 + (1 : Int32)) r29 else none else none else none else none else none else none else none)
set_option maxHeartbeats 4000000 in
theorem w_X4_be_2 {K : KT} {T : CT} {τ : CD} (n : Nat) (g : CG) (C : Kok K cX4_be 3 RX4) (B : CB K T) (hr : (kMe K).sig.returnType = none) (dK : kR K = rmC 3 0 0) (hQ : KQc K T none 0 0 g τ) : ∀ (m : Nat) (x0 : Nat) (x1 : Nat) (x2 : Int32) (d : CD) (hf : f_X4_be_L2 n g m x0 x1 x2 d = some τ), XJ K 3 (Wc K T 0 0 g d) 2 [(0, .ref x0), (1, .ref x1), (2, .int x2)] [] := by
  intro m
  induction m with
  | zero => intro x0 x1 x2 d hf; cases hf
  | succ m ih =>
    intro x0 x1 x2 d hf
    rw [f_X4_be_L2] at hf
    refine x_iload_n C dX4_be_2 2 rfl ?_
    refine x_bipush (8 : Int32) C dX4_be_3 (by decide) ?_
    refine x_icmp_ge (tgt := 29) C dX4_be_5 (by decide) (fun c1 => ?_) (fun c1 => ?_)
    · have hf := pf_t c1 hf
      refine x_aload_n C dX4_be_29 1 rfl ?_
      obtain ⟨t2, hf⟩ := pf_ch hf
      obtain ⟨p3, ep3, hf⟩ := pf_b hf
      refine cg4_1 C B t2 (flo C q452) fsm ep3 dX4_be_30 ?_
      refine x_iconst (0 : Int32) C dX4_be_33 (by decide) ?_
      refine x_aload_n C dX4_be_34 0 rfl ?_
      obtain ⟨t4, hf⟩ := pf_ch hf
      obtain ⟨p5, ep5, hf⟩ := pf_b hf
      refine cg4_1 C B t4 (flo C q452) fsm ep5 dX4_be_35 ?_
      refine x_iconst (0 : Int32) C dX4_be_38 (by decide) ?_
      refine x_aload_n C dX4_be_39 0 rfl ?_
      refine cg4_1 C B t4 (flo C q452) fsm ep5 dX4_be_40 ?_
      obtain ⟨t6, hf⟩ := pf_ch hf
      refine ca_len C B t6 (Or.inl rfl) rfl dX4_be_43 ?_
      obtain ⟨t7, hf⟩ := pf_ch hf
      obtain ⟨h8, hf⟩ := pf_ch hf
      refine c_copyi C B q1035 q1037 q1036 q140 t7 t6 h8 dK (Nat.le_of_ble_eq_true rfl) (Nat.le_of_ble_eq_true rfl) dX4_be_44 ?_
      obtain ⟨s9, es9, hf⟩ := pf_e hf
      refine c_ren es9 ?_
      refine x_aload_n C dX4_be_47 1 rfl ?_
      obtain ⟨p10, ep10, hf⟩ := pf_b hf
      refine cg4_2 C B t2 (flo C q454) fsm ep10 dX4_be_48 ?_
      refine x_iconst (0 : Int32) C dX4_be_51 (by decide) ?_
      refine x_aload_n C dX4_be_52 0 rfl ?_
      obtain ⟨p11, ep11, hf⟩ := pf_b hf
      refine cg4_2 C B t4 (flo C q454) fsm ep11 dX4_be_53 ?_
      refine x_iconst (0 : Int32) C dX4_be_56 (by decide) ?_
      refine x_bipush (8 : Int32) C dX4_be_57 (by decide) ?_
      obtain ⟨t12, hf⟩ := pf_ch hf
      obtain ⟨t13, hf⟩ := pf_ch hf
      obtain ⟨h14, hf⟩ := pf_ch hf
      refine c_copyi C B q1035 q1037 q1036 q140 t12 t13 h14 dK (Nat.le_of_ble_eq_true rfl) (Nat.le_of_ble_eq_true rfl) dX4_be_59 ?_
      obtain ⟨s15, es15, hf⟩ := pf_e hf
      refine c_ren es15 ?_
      refine x_aload_n C dX4_be_62 0 rfl ?_
      refine x_aload_n C dX4_be_63 1 rfl ?_
      refine cg4_4 C B t2 (flo C q458) fsm dX4_be_64 ?_
      refine cp4_4 C B t4 (flo C q458) fsm dX4_be_67 ?_
      obtain ⟨s16, es16, hf⟩ := pf_e hf
      refine c_ren es16 ?_
      refine x_aload_n C dX4_be_70 0 rfl ?_
      refine x_aload_n C dX4_be_71 1 rfl ?_
      refine cg4_5 C B t2 (flo C q460) fsm dX4_be_72 ?_
      refine cp4_5 C B t4 (flo C q460) fsm dX4_be_75 ?_
      obtain ⟨s17, es17, hf⟩ := pf_e hf
      refine c_ren es17 ?_
      obtain rfl := Option.some.inj hf
      exact c_vret C hr hQ dX4_be_78
    · have hf := pf_f c1 hf
      refine x_aload_n C dX4_be_8 0 rfl ?_
      obtain ⟨t18, hf⟩ := pf_ch hf
      obtain ⟨p19, ep19, hf⟩ := pf_b hf
      refine cg4_0 C B t18 (flo C q447) fsm ep19 dX4_be_9 ?_
      refine x_iload_n C dX4_be_12 2 rfl ?_
      obtain ⟨t20, hf⟩ := pf_ch hf
      obtain ⟨h21, hf⟩ := pf_in hf
      obtain ⟨p22, ep22, hf⟩ := pf_b hf
      refine ca_ald5 C B t20 h21 ep22 dX4_be_13 ?_
      refine x_aload_n C dX4_be_14 1 rfl ?_
      obtain ⟨t23, hf⟩ := pf_ch hf
      obtain ⟨p24, ep24, hf⟩ := pf_b hf
      refine cg4_0 C B t23 (flo C q447) fsm ep24 dX4_be_15 ?_
      refine x_iload_n C dX4_be_18 2 rfl ?_
      obtain ⟨t25, hf⟩ := pf_ch hf
      obtain ⟨h26, hf⟩ := pf_in hf
      obtain ⟨p27, ep27, hf⟩ := pf_b hf
      refine ca_ald5 C B t25 h26 ep27 dX4_be_19 ?_
      obtain ⟨t28, hf⟩ := pf_ch hf
      obtain ⟨r29, er29, hf⟩ := pf_b hf
      refine k_X5_be_X4 C B t28 dK (Nat.le_of_ble_eq_true rfl) cz er29 (Nat.le_of_ble_eq_true rfl) dX4_be_20 ?_
      refine x_inc (c := (1 : Int32)) (L' := [(0, .ref x0), (1, .ref x1), (2, .int (x2 + (1 : Int32)))]) C dX4_be_23 2 rfl (by decide) (Nat.le_of_ble_eq_true rfl) [1, 2, 0] rfl ?_
      refine x_goto (tgt := 2) C dX4_be_26 (by decide) ?_
      exact ih x0 x1 (x2 + (1 : Int32)) _ hf
def f_X4_be (n : Nat) (g : CG) (x0 : Nat) (x1 : Nat) (d : CD) : Option CD := f_X4_be_L2 n g n x0 x1 (0 : Int32) d
set_option maxHeartbeats 4000000 in
theorem w_X4_be_E {K : KT} {T : CT} {τ : CD} (n : Nat) (g : CG) (C : Kok K cX4_be 3 RX4) (B : CB K T) (hr : (kMe K).sig.returnType = none) (dK : kR K = rmC 3 0 0) (hQ : KQc K T none 0 0 g τ) (x0 : Nat) (x1 : Nat) (d : CD) (hf : f_X4_be n g x0 x1 d = some τ) : XJ K 3 (Wc K T 0 0 g d) 0 [(0, .ref x0), (1, .ref x1)] [] := by
  unfold f_X4_be at hf
  refine x_iconst (0 : Int32) C dX4_be_0 (by decide) ?_
  refine x_istore_n (L' := [(0, .ref x0), (1, .ref x1), (2, .int (0 : Int32))]) C dX4_be_1 (Nat.le_of_ble_eq_true rfl) [1, 2, 0] rfl ?_
  exact w_X4_be_2 n g C B hr dK hQ n x0 x1 (0 : Int32) _ hf
theorem met_X4_be {T : CT} {v : CD} {n : Nat} {g : CG} {d : CD} {x0 : Nat} {x1 : Nat} {l : Launch} (hf : f_X4_be n g x0 x1 d = some v) : Met l yX4_be (ws_ yX4_be cX4_be 3 none) (rmC 3 0 0) (va_Pc [.ref x0, .ref x1] (CU T g d)) (Qc T none g v) 0 0 (cA T) :=
  c_met [.ref x0, .ref x1] RX4 (by decide) rfl (Nat.le_of_ble_eq_true rfl) (fun K hl hR hr C B hQ => w_X4_be_E _ _ C B hr hR hQ _ _ _ hf)
theorem k_X4_dawn_X1 {K : KT} {T : CT} {c0 s0 c1 s1 dk : Nat} {cc : ByteArray} {nL pc : Nat} {L : List (Nat × Value)} {rest : List Value} {g : CG} {d : CD} {v : (Int32 × CD)} {n : Nat} {x0 : Nat} {x1 : Nat} {x2 : Int32} (C : Kok K cc nL RX1) (B : CB K T) (hta : ht g x0 = 4) (dK : kR K = rmC dk c1 s1) (hd : 3 + 1 ≤ dk) (hcs : c0 + 0 ≤ c1 ∧ s0 + 0 ≤ s1) (hf : f_X4_dawn n g x0 x1 x2 d = some v) (hW : (rest.map fun v => v.category).sum ≤ 8) (dd : decode cc pc = .ok (.invokevirtual 459, 3)) (kk2 : XJ K nL (Wc K T c0 s0 g v.2) (pc + 3) L ((.int v.1) :: rest)) : XJ K nL (Wc K T c0 s0 g d) pc L (.int x2 :: .ref x1 :: .ref x0 :: rest) :=
  c_callV (rest := rest) (v := (some (.int v.1))) [.ref x1, .int x2] 2 rfl C B hta (by decide) (by decide) rfl dK hd (Nat.le_of_ble_eq_true rfl) hcs (lw_V q1273 q1101 q1102 q126 q1103) (by decide +kernel) (met_X4_dawn hf) rfl hW dd kk2
theorem k_X4_goOn_X1 {K : KT} {T : CT} {c0 s0 c1 s1 dk : Nat} {cc : ByteArray} {nL pc : Nat} {L : List (Nat × Value)} {rest : List Value} {g : CG} {d : CD} {v : CD} {n : Nat} {x0 : Nat} {x1 : Nat} (C : Kok K cc nL RX1) (B : CB K T) (hta : ht g x0 = 4) (dK : kR K = rmC dk c1 s1) (hd : 4 + 1 ≤ dk) (hcs : c0 + 0 ≤ c1 ∧ s0 + 0 ≤ s1) (hf : f_X4_goOn n g x0 x1 d = some v) (hW : (rest.map fun v => v.category).sum ≤ 8) (dd : decode cc pc = .ok (.invokevirtual 462, 3)) (kk2 : XJ K nL (Wc K T c0 s0 g v) (pc + 3) L (rest)) : XJ K nL (Wc K T c0 s0 g d) pc L (.ref x1 :: .ref x0 :: rest) :=
  c_callV (rest := rest) (v := none) [.ref x1] 1 rfl C B hta (by decide) (by decide) rfl dK hd (Nat.le_of_ble_eq_true rfl) hcs (lw_V q1274 q1105 q1106 q126 q1107) (by decide +kernel) (met_X4_goOn hf) rfl hW dd kk2
theorem k_X1_isIn_X1 {K : KT} {T : CT} {c0 s0 c1 s1 dk : Nat} {cc : ByteArray} {nL pc : Nat} {L : List (Nat × Value)} {rest : List Value} {g : CG} {d : CD} {v : Int32} {x0 : Int32} {x1 : Int32} {x2 : Int32} (C : Kok K cc nL RX1) (B : CB K T) (dK : kR K = rmC dk c1 s1) (hd : 2 + 1 ≤ dk) (hcs : c0 + 0 ≤ c1 ∧ s0 + 0 ≤ s1) (hf : f_X1_isIn x0 x1 x2 = v) (hW : (rest.map fun v => v.category).sum ≤ 8) (dd : decode cc pc = .ok (.invokestatic 212, 3)) (kk2 : XJ K nL (Wc K T c0 s0 g d) (pc + 3) L ((.int v) :: rest)) : XJ K nL (Wc K T c0 s0 g d) pc L (.int x2 :: .int x1 :: .int x0 :: rest) :=
  c_callS (rest := rest) (v := (some (.int v))) [.int x0, .int x1, .int x2] 3 rfl C B dK hd (Nat.le_of_ble_eq_true rfl) hcs (lw_S q973 q789 q121 q790) (by decide +kernel) (met_X1_isIn hf) rfl hW dd kk2
theorem k_X4_be_X1 {K : KT} {T : CT} {c0 s0 c1 s1 dk : Nat} {cc : ByteArray} {nL pc : Nat} {L : List (Nat × Value)} {rest : List Value} {g : CG} {d : CD} {v : CD} {n : Nat} {x0 : Nat} {x1 : Nat} (C : Kok K cc nL RX1) (B : CB K T) (hta : ht g x0 = 4) (dK : kR K = rmC dk c1 s1) (hd : 3 + 1 ≤ dk) (hcs : c0 + 0 ≤ c1 ∧ s0 + 0 ≤ s1) (hf : f_X4_be n g x0 x1 d = some v) (hW : (rest.map fun v => v.category).sum ≤ 8) (dd : decode cc pc = .ok (.invokevirtual 322, 3)) (kk2 : XJ K nL (Wc K T c0 s0 g v) (pc + 3) L (rest)) : XJ K nL (Wc K T c0 s0 g d) pc L (.ref x1 :: .ref x0 :: rest) :=
  c_callV (rest := rest) (v := none) [.ref x1] 1 rfl C B hta (by decide) (by decide) rfl dK hd (Nat.le_of_ble_eq_true rfl) hcs (lw_V q1027 q1028 q1029 q126 q1030) (by decide +kernel) (met_X4_be hf) rfl hW dd kk2
def f_X1_bare_L33 (n : Nat) (g : CG) : Nat → Nat → Int32 → Int32 → CD → Option (Int32 × CD)
  | 0, _, _, _, _ => none
  | m + 1, x0, x1, x3, d => if x1 ≤ x3 then (some ((-1 : Int32), d)) else (if ht g x0 = 1 then (hr g x0 8).bind fun p3 => if ht g p3 = 4 then if (400 : Int32) ≤ (hi d p3 4) then (some ((-1 : Int32), d)) else ((hr g x0 6).bind fun p6 => if ht g p6 = 3 then (f_X4_dawn n g p3 p6 (hi d p6 22) d).bind fun r8 => if r8.1 = 0 then ((f_X4_goOn n g p3 p6 r8.2).bind fun r10 => f_X1_bare_L33 n g m x0 x1 (x3 + (1 : Int32)) r10) else (some (hi r8.2 p3 4, r8.2)) else none) else none else none)
set_option maxHeartbeats 4000000 in
theorem w_X1_bare_33 {K : KT} {T : CT} {r : Int32} {τ : CD} (n : Nat) (g : CG) (C : Kok K cX1_bare 4 RX1) (B : CB K T) (hr : (kMe K).sig.returnType = (some .int)) (dK : kR K = rmC 5 0 0) (hQ : KQc K T (some (.int r)) 0 0 g τ) : ∀ (m : Nat) (x0 : Nat) (x1 : Int32) (x3 : Int32) (d : CD) (hf : f_X1_bare_L33 n g m x0 x1 x3 d = some (r, τ)), XJ K 4 (Wc K T 0 0 g d) 33 [(0, .ref x0), (1, .int x1), (3, .int x3)] [] := by
  intro m
  induction m with
  | zero => intro x0 x1 x3 d hf; cases hf
  | succ m ih =>
    intro x0 x1 x3 d hf
    rw [f_X1_bare_L33] at hf
    refine x_iload_n C dX1_bare_33 2 rfl ?_
    refine x_iload_n C dX1_bare_34 1 rfl ?_
    refine x_icmp_ge (tgt := 97) C dX1_bare_35 (by decide) (fun c1 => ?_) (fun c1 => ?_)
    · have hf := pf_t c1 hf
      refine x_iconst (-1 : Int32) C dX1_bare_97 (by decide) ?_
      obtain ⟨rfl, rfl⟩ := Prod.mk.inj (Option.some.inj hf)
      exact c_iret C hr hQ dX1_bare_98
    · have hf := pf_f c1 hf
      refine x_aload_n C dX1_bare_38 0 rfl ?_
      obtain ⟨t2, hf⟩ := pf_ch hf
      obtain ⟨p3, ep3, hf⟩ := pf_b hf
      refine cg1_8 C B t2 (flo C q627) fsm ep3 dX1_bare_39 ?_
      obtain ⟨t4, hf⟩ := pf_ch hf
      refine cg4_4 C B t4 (fln B q459) fsm dX1_bare_42 ?_
      refine x_sipush (400 : Int32) C dX1_bare_45 (by decide) ?_
      refine x_icmp_ge (tgt := 97) C dX1_bare_48 (by decide) (fun c5 => ?_) (fun c5 => ?_)
      · have hf := pf_t c5 hf
        refine x_iconst (-1 : Int32) C dX1_bare_97 (by decide) ?_
        obtain ⟨rfl, rfl⟩ := Prod.mk.inj (Option.some.inj hf)
        exact c_iret C hr hQ dX1_bare_98
      · have hf := pf_f c5 hf
        refine x_aload_n C dX1_bare_51 0 rfl ?_
        refine cg1_8 C B t2 (flo C q627) fsm ep3 dX1_bare_52 ?_
        refine x_aload_n C dX1_bare_55 0 rfl ?_
        obtain ⟨p6, ep6, hf⟩ := pf_b hf
        refine cg1_6 C B t2 (flo C q621) fsm ep6 dX1_bare_56 ?_
        refine x_aload_n C dX1_bare_59 0 rfl ?_
        refine cg1_6 C B t2 (flo C q621) fsm ep6 dX1_bare_60 ?_
        obtain ⟨t7, hf⟩ := pf_ch hf
        refine cg3_22 C B t7 (fln B q345) fsm dX1_bare_63 ?_
        obtain ⟨r8, er8, hf⟩ := pf_b hf
        refine k_X4_dawn_X1 C B t4 dK (Nat.le_of_ble_eq_true rfl) cz er8 (Nat.le_of_ble_eq_true rfl) dX1_bare_66 ?_
        refine x_if_eq (tgt := 80) C dX1_bare_69 (by decide) (fun c9 => ?_) (fun c9 => ?_)
        · have hf := pf_t c9 hf
          refine x_aload_n C dX1_bare_80 0 rfl ?_
          refine cg1_8 C B t2 (flo C q627) fsm ep3 dX1_bare_81 ?_
          refine x_aload_n C dX1_bare_84 0 rfl ?_
          refine cg1_6 C B t2 (flo C q621) fsm ep6 dX1_bare_85 ?_
          obtain ⟨r10, er10, hf⟩ := pf_b hf
          refine k_X4_goOn_X1 C B t4 dK (Nat.le_of_ble_eq_true rfl) cz er10 (Nat.le_of_ble_eq_true rfl) dX1_bare_88 ?_
          refine x_inc (c := (1 : Int32)) (L' := [(0, .ref x0), (1, .int x1), (3, .int (x3 + (1 : Int32)))]) C dX1_bare_91 2 rfl (by decide) (Nat.le_of_ble_eq_true rfl) [1, 2, 0] rfl ?_
          refine x_goto (tgt := 33) C dX1_bare_94 (by decide) ?_
          exact ih x0 x1 (x3 + (1 : Int32)) _ hf
        · have hf := pf_f c9 hf
          refine x_aload_n C dX1_bare_72 0 rfl ?_
          refine cg1_8 C B t2 (flo C q627) fsm ep3 dX1_bare_73 ?_
          refine cg4_4 C B t4 (fln B q459) fsm dX1_bare_76 ?_
          obtain ⟨rfl, rfl⟩ := Prod.mk.inj (Option.some.inj hf)
          exact c_iret C hr hQ dX1_bare_79
def f_X1_bare (n : Nat) (g : CG) (x0 : Nat) (x1 : Int32) (x2 : Int32) (d : CD) : Option (Int32 × CD) := if (f_X1_isIn x1 (1 : Int32) (60 : Int32)) = 0 then (some ((-1 : Int32), d)) else (if ht g x0 = 1 then (hr g x0 8).bind fun p3 => (hr g x0 7).bind fun p4 => if ht g p3 = 4 then (f_X4_be n g p3 p4 d).bind fun r6 => ev (wi r6 p3 6 x2) fun s7 => f_X1_bare_L33 n g n x0 x1 (0 : Int32) s7 else none else none)
set_option maxHeartbeats 4000000 in
theorem w_X1_bare_E {K : KT} {T : CT} {r : Int32} {τ : CD} (n : Nat) (g : CG) (C : Kok K cX1_bare 4 RX1) (B : CB K T) (hr : (kMe K).sig.returnType = (some .int)) (dK : kR K = rmC 5 0 0) (hQ : KQc K T (some (.int r)) 0 0 g τ) (x0 : Nat) (x1 : Int32) (x2 : Int32) (d : CD) (hf : f_X1_bare n g x0 x1 x2 d = some (r, τ)) : XJ K 4 (Wc K T 0 0 g d) 0 [(0, .ref x0), (1, .int x1), (2, .int x2)] [] := by
  unfold f_X1_bare at hf
  refine x_iload_n C dX1_bare_0 1 rfl ?_
  refine x_iconst (1 : Int32) C dX1_bare_1 (by decide) ?_
  refine x_bipush (60 : Int32) C dX1_bare_2 (by decide) ?_
  refine k_X1_isIn_X1 C B dK (Nat.le_of_ble_eq_true rfl) cz rfl (Nat.le_of_ble_eq_true rfl) dX1_bare_4 ?_
  refine x_if_ne (tgt := 12) C dX1_bare_7 (by decide) (fun c1 => ?_) (fun c1 => ?_)
  · have hf := pf_f c1 hf
    refine x_aload_n C dX1_bare_12 0 rfl ?_
    obtain ⟨t2, hf⟩ := pf_ch hf
    obtain ⟨p3, ep3, hf⟩ := pf_b hf
    refine cg1_8 C B t2 (flo C q627) fsm ep3 dX1_bare_13 ?_
    refine x_aload_n C dX1_bare_16 0 rfl ?_
    obtain ⟨p4, ep4, hf⟩ := pf_b hf
    refine cg1_7 C B t2 (flo C q624) fsm ep4 dX1_bare_17 ?_
    obtain ⟨t5, hf⟩ := pf_ch hf
    obtain ⟨r6, er6, hf⟩ := pf_b hf
    refine k_X4_be_X1 C B t5 dK (Nat.le_of_ble_eq_true rfl) cz er6 (Nat.le_of_ble_eq_true rfl) dX1_bare_20 ?_
    refine x_aload_n C dX1_bare_23 0 rfl ?_
    refine cg1_8 C B t2 (flo C q627) fsm ep3 dX1_bare_24 ?_
    refine x_iload_n C dX1_bare_27 2 rfl ?_
    refine cp4_6 C B t5 (fln B q463) fsm dX1_bare_28 ?_
    obtain ⟨s7, es7, hf⟩ := pf_e hf
    refine c_ren es7 ?_
    refine x_iconst (0 : Int32) C dX1_bare_31 (by decide) ?_
    refine x_istore_n (L' := [(0, .ref x0), (1, .int x1), (3, .int (0 : Int32))]) C dX1_bare_32 (Nat.le_of_ble_eq_true rfl) [1, 2, 0] rfl ?_
    exact w_X1_bare_33 n g C B hr dK hQ n x0 x1 (0 : Int32) _ hf
  · have hf := pf_t c1 hf
    refine x_iconst (-1 : Int32) C dX1_bare_10 (by decide) ?_
    obtain ⟨rfl, rfl⟩ := Prod.mk.inj (Option.some.inj hf)
    exact c_iret C hr hQ dX1_bare_11
theorem met_X1_bare {T : CT} {v : (Int32 × CD)} {n : Nat} {g : CG} {d : CD} {x0 : Nat} {x1 : Int32} {x2 : Int32} {l : Launch} (hf : f_X1_bare n g x0 x1 x2 d = some v) : Met l yX1_bare (ws_ yX1_bare cX1_bare 4 (some .int)) (rmC 5 0 0) (va_Pc [.ref x0, .int x1, .int x2] (CU T g d)) (Qc T (some (.int v.1)) g v.2) 0 0 (cA T) :=
  c_met [.ref x0, .int x1, .int x2] RX1 (by decide) rfl (Nat.le_of_ble_eq_true rfl) (fun K hl hR hr C B hQ => w_X1_bare_E _ _ C B hr hR hQ _ _ _ _ hf)
def f_X1_bid (g : CG) (d : CD) (x0 : Nat) (x1 : Int32) : Option Int32 := if ht g x0 = 1 then if (f_X1_isIn x1 (0 : Int32) ((hi d x0 22) - (1 : Int32))) = 0 then (some (-1 : Int32)) else ((hr g x0 18).bind fun p3 => if ht g p3 = 100 then if inb x1 (hn g p3) = true then some (hi d p3 (Int32.toNatClampNeg x1)) else none else none) else none
set_option maxHeartbeats 4000000 in
theorem w_X1_bid_E {K : KT} {T : CT} {r : Int32} (g : CG) (d : CD) (C : Kok K cX1_bid 2 RX1) (B : CB K T) (hr : (kMe K).sig.returnType = (some .int)) (dK : kR K = rmC 3 0 0) (hQ : KQc K T (some (.int r)) 0 0 g d) (x0 : Nat) (x1 : Int32) (hf : f_X1_bid g d x0 x1 = some r) : XJ K 2 (Wc K T 0 0 g d) 0 [(0, .ref x0), (1, .int x1)] [] := by
  unfold f_X1_bid at hf
  refine x_iload_n C dX1_bid_0 1 rfl ?_
  refine x_iconst (0 : Int32) C dX1_bid_1 (by decide) ?_
  refine x_aload_n C dX1_bid_2 0 rfl ?_
  obtain ⟨t1, hf⟩ := pf_ch hf
  refine cg1_22 C B t1 (flo C q641) fsm dX1_bid_3 ?_
  refine x_iconst (1 : Int32) C dX1_bid_6 (by decide) ?_
  refine x_isub C dX1_bid_7 ?_
  refine k_X1_isIn_X1 C B dK (Nat.le_of_ble_eq_true rfl) cz rfl (Nat.le_of_ble_eq_true rfl) dX1_bid_8 ?_
  refine x_if_eq (tgt := 23) C dX1_bid_11 (by decide) (fun c2 => ?_) (fun c2 => ?_)
  · have hf := pf_t c2 hf
    refine x_iconst (-1 : Int32) C dX1_bid_23 (by decide) ?_
    obtain rfl := Option.some.inj hf
    exact c_iret C hr hQ dX1_bid_24
  · have hf := pf_f c2 hf
    refine x_aload_n C dX1_bid_14 0 rfl ?_
    obtain ⟨p3, ep3, hf⟩ := pf_b hf
    refine cg1_18 C B t1 (flo C q637) fsm ep3 dX1_bid_15 ?_
    refine x_iload_n C dX1_bid_18 1 rfl ?_
    obtain ⟨t4, hf⟩ := pf_ch hf
    obtain ⟨h5, hf⟩ := pf_in hf
    refine ca_ild C B t4 h5 dX1_bid_19 ?_
    refine x_goto (tgt := 24) C dX1_bid_20 (by decide) ?_
    obtain rfl := Option.some.inj hf
    exact c_iret C hr hQ dX1_bid_24
theorem met_X1_bid {T : CT} {v : Int32} {g : CG} {d : CD} {x0 : Nat} {x1 : Int32} {l : Launch} (hf : f_X1_bid g d x0 x1 = some v) : Met l yX1_bid (ws_ yX1_bid cX1_bid 2 (some .int)) (rmC 3 0 0) (va_Pc [.ref x0, .int x1] (CU T g d)) (Qc T (some (.int v)) g d) 0 0 (cA T) :=
  c_met [.ref x0, .int x1] RX1 (by decide) rfl (Nat.le_of_ble_eq_true rfl) (fun K hl hR hr C B hQ => w_X1_bid_E _ _ C B hr hR hQ _ _ hf)
def f_X1_isOnRoute_L2 (n : Nat) (g : CG) (d : CD) : Nat → Nat → Int32 → Int32 → Option Int32
  | 0, _, _, _ => none
  | m + 1, x0, x1, x2 => if ht g x0 = 1 then if (hi d x0 20) ≤ x2 then (some (0 : Int32)) else ((hr g x0 16).bind fun p3 => if ht g p3 = 100 then if inb x2 (hn g p3) = true then if (hi d p3 (Int32.toNatClampNeg x2)) = x1 then (some (1 : Int32)) else (f_X1_isOnRoute_L2 n g d m x0 x1 (x2 + (1 : Int32))) else none else none) else none
set_option maxHeartbeats 4000000 in
theorem w_X1_isOnRoute_2 {K : KT} {T : CT} {r : Int32} (n : Nat) (g : CG) (d : CD) (C : Kok K cX1_isOnRoute 3 RX1) (B : CB K T) (hr : (kMe K).sig.returnType = (some .boolean)) (dK : kR K = rmC 2 0 0) (hQ : KQc K T (some (.int r)) 0 0 g d) : ∀ (m : Nat) (x0 : Nat) (x1 : Int32) (x2 : Int32) (hf : f_X1_isOnRoute_L2 n g d m x0 x1 x2 = some r), XJ K 3 (Wc K T 0 0 g d) 2 [(0, .ref x0), (1, .int x1), (2, .int x2)] [] := by
  intro m
  induction m with
  | zero => intro x0 x1 x2 hf; cases hf
  | succ m ih =>
    intro x0 x1 x2 hf
    rw [f_X1_isOnRoute_L2] at hf
    refine x_iload_n C dX1_isOnRoute_2 2 rfl ?_
    refine x_aload_n C dX1_isOnRoute_3 0 rfl ?_
    obtain ⟨t1, hf⟩ := pf_ch hf
    refine cg1_20 C B t1 (flo C q639) fsm dX1_isOnRoute_4 ?_
    refine x_icmp_ge (tgt := 28) C dX1_isOnRoute_7 (by decide) (fun c2 => ?_) (fun c2 => ?_)
    · have hf := pf_t c2 hf
      refine x_iconst (0 : Int32) C dX1_isOnRoute_28 (by decide) ?_
      obtain rfl := Option.some.inj hf
      exact c_zret C hr (Or.inl rfl) hQ dX1_isOnRoute_29
    · have hf := pf_f c2 hf
      refine x_aload_n C dX1_isOnRoute_10 0 rfl ?_
      obtain ⟨p3, ep3, hf⟩ := pf_b hf
      refine cg1_16 C B t1 (flo C q635) fsm ep3 dX1_isOnRoute_11 ?_
      refine x_iload_n C dX1_isOnRoute_14 2 rfl ?_
      obtain ⟨t4, hf⟩ := pf_ch hf
      obtain ⟨h5, hf⟩ := pf_in hf
      refine ca_ild C B t4 h5 dX1_isOnRoute_15 ?_
      refine x_iload_n C dX1_isOnRoute_16 1 rfl ?_
      refine x_icmp_ne (tgt := 22) C dX1_isOnRoute_17 (by decide) (fun c6 => ?_) (fun c6 => ?_)
      · have hf := pf_f c6 hf
        refine x_inc (c := (1 : Int32)) (L' := [(0, .ref x0), (1, .int x1), (2, .int (x2 + (1 : Int32)))]) C dX1_isOnRoute_22 2 rfl (by decide) (Nat.le_of_ble_eq_true rfl) [1, 2, 0] rfl ?_
        refine x_goto (tgt := 2) C dX1_isOnRoute_25 (by decide) ?_
        exact ih x0 x1 (x2 + (1 : Int32)) hf
      · have hf := pf_t c6 hf
        refine x_iconst (1 : Int32) C dX1_isOnRoute_20 (by decide) ?_
        obtain rfl := Option.some.inj hf
        exact c_zret C hr (Or.inr rfl) hQ dX1_isOnRoute_21
theorem bz_X1_isOnRoute_2 {r : Int32} {n : Nat} {g : CG} {d : CD} : ∀ (m : Nat) (x0 : Nat) (x1 : Int32) (x2 : Int32) (hf : f_X1_isOnRoute_L2 n g d m x0 x1 x2 = some r), r = 0 ∨ r = 1 := by
  intro m
  induction m with
  | zero => intro x0 x1 x2 hf; cases hf
  | succ m ih =>
    intro x0 x1 x2 hf
    rw [f_X1_isOnRoute_L2] at hf
    obtain ⟨t1, hf⟩ := pf_ch hf
    by_cases c2 : (hi d x0 20) ≤ x2
    · have hf := pf_t c2 hf
      obtain rfl := Option.some.inj hf
      exact (Or.inl rfl)
    · have hf := pf_f c2 hf
      obtain ⟨p3, ep3, hf⟩ := pf_b hf
      obtain ⟨t4, hf⟩ := pf_ch hf
      obtain ⟨h5, hf⟩ := pf_in hf
      by_cases c6 : (hi d p3 (Int32.toNatClampNeg x2)) = x1
      · have hf := pf_t c6 hf
        obtain rfl := Option.some.inj hf
        exact (Or.inr rfl)
      · have hf := pf_f c6 hf
        exact ih x0 x1 (x2 + (1 : Int32)) hf
def f_X1_isOnRoute (n : Nat) (g : CG) (d : CD) (x0 : Nat) (x1 : Int32) : Option Int32 := f_X1_isOnRoute_L2 n g d n x0 x1 (0 : Int32)
set_option maxHeartbeats 4000000 in
theorem w_X1_isOnRoute_E {K : KT} {T : CT} {r : Int32} (n : Nat) (g : CG) (d : CD) (C : Kok K cX1_isOnRoute 3 RX1) (B : CB K T) (hr : (kMe K).sig.returnType = (some .boolean)) (dK : kR K = rmC 2 0 0) (hQ : KQc K T (some (.int r)) 0 0 g d) (x0 : Nat) (x1 : Int32) (hf : f_X1_isOnRoute n g d x0 x1 = some r) : XJ K 3 (Wc K T 0 0 g d) 0 [(0, .ref x0), (1, .int x1)] [] := by
  unfold f_X1_isOnRoute at hf
  refine x_iconst (0 : Int32) C dX1_isOnRoute_0 (by decide) ?_
  refine x_istore_n (L' := [(0, .ref x0), (1, .int x1), (2, .int (0 : Int32))]) C dX1_isOnRoute_1 (Nat.le_of_ble_eq_true rfl) [1, 2, 0] rfl ?_
  exact w_X1_isOnRoute_2 n g d C B hr dK hQ n x0 x1 (0 : Int32) hf
theorem bz_X1_isOnRoute_E {r : Int32} {n : Nat} {g : CG} {d : CD} {x0 : Nat} {x1 : Int32} (hf : f_X1_isOnRoute n g d x0 x1 = some r) : r = 0 ∨ r = 1 := by
  unfold f_X1_isOnRoute at hf
  exact bz_X1_isOnRoute_2 n x0 x1 (0 : Int32) hf
theorem met_X1_isOnRoute {T : CT} {v : Int32} {n : Nat} {g : CG} {d : CD} {x0 : Nat} {x1 : Int32} {l : Launch} (hf : f_X1_isOnRoute n g d x0 x1 = some v) : Met l yX1_isOnRoute (ws_ yX1_isOnRoute cX1_isOnRoute 3 (some .boolean)) (rmC 2 0 0) (va_Pc [.ref x0, .int x1] (CU T g d)) (Qc T (some (.int v)) g d) 0 0 (cA T) :=
  c_met [.ref x0, .int x1] RX1 (by decide) rfl (Nat.le_of_ble_eq_true rfl) (fun K hl hR hr C B hQ => w_X1_isOnRoute_E _ _ _ C B hr hR hQ _ _ hf)
theorem k_X4_at_X1 {K : KT} {T : CT} {c0 s0 c1 s1 dk : Nat} {cc : ByteArray} {nL pc : Nat} {L : List (Nat × Value)} {rest : List Value} {g : CG} {d : CD} {v : Int32} {n : Nat} {x0 : Nat} {x1 : Nat} {x2 : Int32} (C : Kok K cc nL RX1) (B : CB K T) (hta : ht g x0 = 4) (dK : kR K = rmC dk c1 s1) (hd : 2 + 1 ≤ dk) (hcs : c0 + 0 ≤ c1 ∧ s0 + 0 ≤ s1) (hf : f_X4_at n g d x0 x1 x2 = some v) (hW : (rest.map fun v => v.category).sum ≤ 8) (dd : decode cc pc = .ok (.invokevirtual 245, 3)) (kk2 : XJ K nL (Wc K T c0 s0 g d) (pc + 3) L ((.int v) :: rest)) : XJ K nL (Wc K T c0 s0 g d) pc L (.int x2 :: .ref x1 :: .ref x0 :: rest) :=
  c_callV (rest := rest) (v := (some (.int v))) [.ref x1, .int x2] 2 rfl C B hta (by decide) (by decide) rfl dK hd (Nat.le_of_ble_eq_true rfl) hcs (lw_V q974 q975 q976 q126 q977) (by decide +kernel) (met_X4_at hf) rfl hW dd kk2
def f_X1_bribeAt (n : Nat) (g : CG) (d : CD) (x0 : Nat) (x1 : Int32) : Option Int32 := if ht g x0 = 1 then (hr g x0 7).bind fun p2 => (hr g x0 6).bind fun p3 => if ht g p2 = 4 then (f_X4_at n g d p2 p3 x1).bind fun r5 => if r5 = (-1 : Int32) then (some (0 : Int32)) else ((hr g x0 17).bind fun p7 => if ht g p7 = 100 then if inb r5 (hn g p7) = true then some (hi d p7 (Int32.toNatClampNeg r5)) else none else none) else none else none
set_option maxHeartbeats 4000000 in
theorem w_X1_bribeAt_E {K : KT} {T : CT} {r : Int32} (n : Nat) (g : CG) (d : CD) (C : Kok K cX1_bribeAt 3 RX1) (B : CB K T) (hr : (kMe K).sig.returnType = (some .int)) (dK : kR K = rmC 3 0 0) (hQ : KQc K T (some (.int r)) 0 0 g d) (x0 : Nat) (x1 : Int32) (hf : f_X1_bribeAt n g d x0 x1 = some r) : XJ K 3 (Wc K T 0 0 g d) 0 [(0, .ref x0), (1, .int x1)] [] := by
  unfold f_X1_bribeAt at hf
  refine x_aload_n C dX1_bribeAt_0 0 rfl ?_
  obtain ⟨t1, hf⟩ := pf_ch hf
  obtain ⟨p2, ep2, hf⟩ := pf_b hf
  refine cg1_7 C B t1 (flo C q624) fsm ep2 dX1_bribeAt_1 ?_
  refine x_aload_n C dX1_bribeAt_4 0 rfl ?_
  obtain ⟨p3, ep3, hf⟩ := pf_b hf
  refine cg1_6 C B t1 (flo C q621) fsm ep3 dX1_bribeAt_5 ?_
  refine x_iload_n C dX1_bribeAt_8 1 rfl ?_
  obtain ⟨t4, hf⟩ := pf_ch hf
  obtain ⟨r5, er5, hf⟩ := pf_b hf
  refine k_X4_at_X1 C B t4 dK (Nat.le_of_ble_eq_true rfl) cz er5 (Nat.le_of_ble_eq_true rfl) dX1_bribeAt_9 ?_
  refine x_istore_n (L' := [(0, .ref x0), (2, .int r5)]) C dX1_bribeAt_12 (Nat.le_of_ble_eq_true rfl) [1, 0] rfl ?_
  refine x_iload_n C dX1_bribeAt_13 1 rfl ?_
  refine x_iconst (-1 : Int32) C dX1_bribeAt_14 (by decide) ?_
  refine x_icmp_ne (tgt := 22) C dX1_bribeAt_15 (by decide) (fun c6 => ?_) (fun c6 => ?_)
  · have hf := pf_f c6 hf
    refine x_aload_n C dX1_bribeAt_22 0 rfl ?_
    obtain ⟨p7, ep7, hf⟩ := pf_b hf
    refine cg1_17 C B t1 (flo C q636) fsm ep7 dX1_bribeAt_23 ?_
    refine x_iload_n C dX1_bribeAt_26 1 rfl ?_
    obtain ⟨t8, hf⟩ := pf_ch hf
    obtain ⟨h9, hf⟩ := pf_in hf
    refine ca_ild C B t8 h9 dX1_bribeAt_27 ?_
    obtain rfl := Option.some.inj hf
    exact c_iret C hr hQ dX1_bribeAt_28
  · have hf := pf_t c6 hf
    refine x_iconst (0 : Int32) C dX1_bribeAt_18 (by decide) ?_
    refine x_goto (tgt := 28) C dX1_bribeAt_19 (by decide) ?_
    obtain rfl := Option.some.inj hf
    exact c_iret C hr hQ dX1_bribeAt_28
theorem met_X1_bribeAt {T : CT} {v : Int32} {n : Nat} {g : CG} {d : CD} {x0 : Nat} {x1 : Int32} {l : Launch} (hf : f_X1_bribeAt n g d x0 x1 = some v) : Met l yX1_bribeAt (ws_ yX1_bribeAt cX1_bribeAt 3 (some .int)) (rmC 3 0 0) (va_Pc [.ref x0, .int x1] (CU T g d)) (Qc T (some (.int v)) g d) 0 0 (cA T) :=
  c_met [.ref x0, .int x1] RX1 (by decide) rfl (Nat.le_of_ble_eq_true rfl) (fun K hl hR hr C B hQ => w_X1_bribeAt_E _ _ _ C B hr hR hQ _ _ hf)
theorem k_J10_numberOfTrailingZeros_X1 {K : KT} {T : CT} {c0 s0 c1 s1 dk : Nat} {cc : ByteArray} {nL pc : Nat} {L : List (Nat × Value)} {rest : List Value} {g : CG} {d : CD} {v : Int32} {x0 : Int32} (C : Kok K cc nL RX1) (B : CB K T) (dK : kR K = rmC dk c1 s1) (hd : 2 + 1 ≤ dk) (hcs : c0 + 0 ≤ c1 ∧ s0 + 0 ≤ s1) (hf : f_J10_numberOfTrailingZeros x0 = v) (hW : (rest.map fun v => v.category).sum ≤ 8) (dd : decode cc pc = .ok (.invokestatic 405, 3)) (kk2 : XJ K nL (Wc K T c0 s0 g d) (pc + 3) L ((.int v) :: rest)) : XJ K nL (Wc K T c0 s0 g d) pc L (.int x0 :: rest) :=
  c_callS (rest := rest) (v := (some (.int v))) [.int x0] 1 rfl C B dK hd (Nat.le_of_ble_eq_true rfl) hcs (lw_S q1192 q1193 q143 q1194) (by decide +kernel) (met_J10_numberOfTrailingZeros hf) rfl hW dd kk2
theorem k_X1_bribeAt_X1 {K : KT} {T : CT} {c0 s0 c1 s1 dk : Nat} {cc : ByteArray} {nL pc : Nat} {L : List (Nat × Value)} {rest : List Value} {g : CG} {d : CD} {v : Int32} {n : Nat} {x0 : Nat} {x1 : Int32} (C : Kok K cc nL RX1) (B : CB K T) (hta : ht g x0 = 1) (dK : kR K = rmC dk c1 s1) (hd : 3 + 1 ≤ dk) (hcs : c0 + 0 ≤ c1 ∧ s0 + 0 ≤ s1) (hf : f_X1_bribeAt n g d x0 x1 = some v) (hW : (rest.map fun v => v.category).sum ≤ 8) (dd : decode cc pc = .ok (.invokevirtual 410, 3)) (kk2 : XJ K nL (Wc K T c0 s0 g d) (pc + 3) L ((.int v) :: rest)) : XJ K nL (Wc K T c0 s0 g d) pc L (.int x1 :: .ref x0 :: rest) :=
  c_callV (rest := rest) (v := (some (.int v))) [.int x1] 1 rfl C B hta (by decide) (by decide) rfl dK hd (Nat.le_of_ble_eq_true rfl) hcs (lw_V q1184 q1186 qs23 q121 q1187) (by decide +kernel) (met_X1_bribeAt hf) rfl hW dd kk2
theorem k_X1_routes_X1r {K : KT} {T : CT} {c0 s0 c1 s1 dk : Nat} {cc : ByteArray} {nL pc : Nat} {L : List (Nat × Value)} {rest : List Value} {g : CG} {d : CD} {v : CD} {rs : Nat → Int32 → Int32 → Int32 → Int32 → CD → Option CD} {rf : Nat} {x0 : Nat} {x1 : Int32} {x2 : Int32} {x3 : Int32} {x4 : Int32} (C : Kok K cc nL RX1) (B : CB K T) (hrs : ∀ (a0 : Nat) (a1 : Int32) (a2 : Int32) (a3 : Int32) (a4 : Int32) (d : CD) (v : CD), rs a0 a1 a2 a3 a4 d = some v → Met (kL K) yX1_routes (ws_ yX1_routes cX1_routes 7 none) (rmC (4 + rf) 0 0) (va_Pc [.ref a0, .int a1, .int a2, .int a3, .int a4] (CU T g d)) (Qc T none g v) 0 0 (cA T)) (hta : ht g x0 = 1) (dK : kR K = rmC dk c1 s1) (hd : (4 + rf) + 1 ≤ dk) (hcs : c0 + 0 ≤ c1 ∧ s0 + 0 ≤ s1) (hf : rs x0 x1 x2 x3 x4 d = some v) (hW : (rest.map fun v => v.category).sum ≤ 8) (dd : decode cc pc = .ok (.invokevirtual 413, 3)) (kk2 : XJ K nL (Wc K T c0 s0 g v) (pc + 3) L (rest)) : XJ K nL (Wc K T c0 s0 g d) pc L (.int x4 :: .int x3 :: .int x2 :: .int x1 :: .ref x0 :: rest) :=
  c_callV (rest := rest) (v := none) [.int x1, .int x2, .int x3, .int x4] 4 rfl C B hta (by decide) (by decide) rfl dK hd (Nat.le_of_ble_eq_true rfl) hcs (lw_V q1188 q1190 qs24 q121 q1191) (by decide +kernel) (hrs _ _ _ _ _ _ _ hf) rfl hW dd kk2
def f_X1_routes_L80 (rs : Nat → Int32 → Int32 → Int32 → Int32 → CD → Option CD) (n : Nat) (g : CG) : Nat → Nat → Int32 → Int32 → Int32 → Int32 → Int32 → CD → Option CD
  | 0, _, _, _, _, _, _, _ => none
  | m + 1, x0, x1, x2, x3, x4, x5, d => if x5 = 0 then (some d) else (ev (f_J10_numberOfTrailingZeros x5) fun v2 => if ht g x0 = 1 then (hr g x0 15).bind fun p4 => if ht g p4 = 100 then if inb x1 (hn g p4) = true then ev (wi d p4 (Int32.toNatClampNeg x1) v2) fun s7 => (f_X1_bribeAt n g s7 x0 v2).bind fun r8 => (rs x0 (x1 + (1 : Int32)) x2 (x3 ||| ((1 : Int32) <<< (v2 &&& 31))) (x4 + r8) s7).bind fun r9 => ev (x5 &&& (x5 - (1 : Int32))) fun v10 => f_X1_routes_L80 rs n g m x0 x1 x2 x3 x4 v10 r9 else none else none else none)
set_option maxHeartbeats 4000000 in
theorem w_X1_routes_80 {K : KT} {T : CT} {τ : CD} (rs : Nat → Int32 → Int32 → Int32 → Int32 → CD → Option CD) (n : Nat) (g : CG) {rf : Nat} (hrs : ∀ (a0 : Nat) (a1 : Int32) (a2 : Int32) (a3 : Int32) (a4 : Int32) (d : CD) (v : CD), rs a0 a1 a2 a3 a4 d = some v → Met (kL K) yX1_routes (ws_ yX1_routes cX1_routes 7 none) (rmC (4 + rf) 0 0) (va_Pc [.ref a0, .int a1, .int a2, .int a3, .int a4] (CU T g d)) (Qc T none g v) 0 0 (cA T)) (C : Kok K cX1_routes 7 RX1) (B : CB K T) (hr : (kMe K).sig.returnType = none) (dK : kR K = rmC (4 + (rf + 1)) 0 0) (hQ : KQc K T none 0 0 g τ) : ∀ (m : Nat) (x0 : Nat) (x1 : Int32) (x2 : Int32) (x3 : Int32) (x4 : Int32) (x5 : Int32) (d : CD) (hf : f_X1_routes_L80 rs n g m x0 x1 x2 x3 x4 x5 d = some τ), XJ K 7 (Wc K T 0 0 g d) 80 [(0, .ref x0), (1, .int x1), (2, .int x2), (3, .int x3), (4, .int x4), (5, .int x5)] [] := by
  intro m
  induction m with
  | zero => intro x0 x1 x2 x3 x4 x5 d hf; cases hf
  | succ m ih =>
    intro x0 x1 x2 x3 x4 x5 d hf
    rw [f_X1_routes_L80] at hf
    refine x_iload C dX1_routes_80 5 rfl ?_
    refine x_if_eq (tgt := 135) C dX1_routes_82 (by decide) (fun c1 => ?_) (fun c1 => ?_)
    · have hf := pf_t c1 hf
      obtain rfl := Option.some.inj hf
      exact c_vret C hr hQ dX1_routes_135
    · have hf := pf_f c1 hf
      refine x_iload C dX1_routes_85 5 rfl ?_
      refine k_J10_numberOfTrailingZeros_X1 C B dK (by omega) cz rfl (Nat.le_of_ble_eq_true rfl) dX1_routes_87 ?_
      obtain ⟨v2, ev2, hf⟩ := pf_e hf
      refine x_topir ev2 ?_
      refine x_istore (L' := [(0, .ref x0), (1, .int x1), (2, .int x2), (3, .int x3), (4, .int x4), (5, .int x5), (6, .int v2)]) C dX1_routes_90 (Nat.le_of_ble_eq_true rfl) [1, 2, 3, 4, 5, 6, 0] rfl ?_
      refine x_aload_n C dX1_routes_92 0 rfl ?_
      obtain ⟨t3, hf⟩ := pf_ch hf
      obtain ⟨p4, ep4, hf⟩ := pf_b hf
      refine cg1_15 C B t3 (flo C q634) fsm ep4 dX1_routes_93 ?_
      refine x_iload_n C dX1_routes_96 1 rfl ?_
      refine x_iload C dX1_routes_97 6 rfl ?_
      obtain ⟨t5, hf⟩ := pf_ch hf
      obtain ⟨h6, hf⟩ := pf_in hf
      refine ca_ist C B t5 h6 dX1_routes_99 ?_
      obtain ⟨s7, es7, hf⟩ := pf_e hf
      refine c_ren es7 ?_
      refine x_aload_n C dX1_routes_100 0 rfl ?_
      refine x_iload_n C dX1_routes_101 1 rfl ?_
      refine x_iconst (1 : Int32) C dX1_routes_102 (by decide) ?_
      refine x_iadd C dX1_routes_103 ?_
      refine x_iload_n C dX1_routes_104 2 rfl ?_
      refine x_iload_n C dX1_routes_105 3 rfl ?_
      refine x_iconst (1 : Int32) C dX1_routes_106 (by decide) ?_
      refine x_iload C dX1_routes_107 6 rfl ?_
      refine x_ishl C dX1_routes_109 ?_
      refine x_ior C dX1_routes_110 ?_
      refine x_iload C dX1_routes_111 4 rfl ?_
      refine x_aload_n C dX1_routes_113 0 rfl ?_
      refine x_iload C dX1_routes_114 6 rfl ?_
      obtain ⟨r8, er8, hf⟩ := pf_b hf
      refine k_X1_bribeAt_X1 C B t3 dK (by omega) cz er8 (Nat.le_of_ble_eq_true rfl) dX1_routes_116 ?_
      refine x_iadd C dX1_routes_119 ?_
      obtain ⟨r9, er9, hf⟩ := pf_b hf
      refine k_X1_routes_X1r C B hrs t3 dK (by omega) cz er9 (Nat.le_of_ble_eq_true rfl) dX1_routes_120 ?_
      refine x_iload C dX1_routes_123 5 rfl ?_
      refine x_iload C dX1_routes_125 5 rfl ?_
      refine x_iconst (1 : Int32) C dX1_routes_127 (by decide) ?_
      refine x_isub C dX1_routes_128 ?_
      refine x_iand C dX1_routes_129 ?_
      obtain ⟨v10, ev10, hf⟩ := pf_e hf
      refine x_topir ev10 ?_
      refine x_istore (L' := [(0, .ref x0), (1, .int x1), (2, .int x2), (3, .int x3), (4, .int x4), (5, .int v10)]) C dX1_routes_130 (Nat.le_of_ble_eq_true rfl) [1, 2, 3, 4, 5, 0] rfl ?_
      refine x_goto (tgt := 80) C dX1_routes_132 (by decide) ?_
      exact ih x0 x1 x2 x3 x4 v10 _ hf
def f_X1_routes_L52 (rs : Nat → Int32 → Int32 → Int32 → Int32 → CD → Option CD) (n : Nat) (g : CG) (x0 : Nat) (x1 : Int32) (x2 : Int32) (x3 : Int32) (x4 : Int32) (d : CD) : Option CD := if x1 = x2 then (some d) else (if ht g x0 = 1 then (hr g x0 6).bind fun p3 => if ht g p3 = 3 then (hr g p3 5).bind fun p5 => (hr g x0 15).bind fun p6 => if ht g p6 = 100 then if inb (x1 - (1 : Int32)) (hn g p6) = true then if ht g p5 = 100 then if inb (hi d p6 (Int32.toNatClampNeg (x1 - (1 : Int32)))) (hn g p5) = true then ev ((hi d p5 (Int32.toNatClampNeg (hi d p6 (Int32.toNatClampNeg (x1 - (1 : Int32)))))) &&& (x3 ^^^ (-1 : Int32))) fun v11 => f_X1_routes_L80 rs n g n x0 x1 x2 x3 x4 v11 d else none else none else none else none else none else none)
set_option maxHeartbeats 4000000 in
theorem w_X1_routes_52 {K : KT} {T : CT} {τ : CD} (rs : Nat → Int32 → Int32 → Int32 → Int32 → CD → Option CD) (n : Nat) (g : CG) {rf : Nat} (hrs : ∀ (a0 : Nat) (a1 : Int32) (a2 : Int32) (a3 : Int32) (a4 : Int32) (d : CD) (v : CD), rs a0 a1 a2 a3 a4 d = some v → Met (kL K) yX1_routes (ws_ yX1_routes cX1_routes 7 none) (rmC (4 + rf) 0 0) (va_Pc [.ref a0, .int a1, .int a2, .int a3, .int a4] (CU T g d)) (Qc T none g v) 0 0 (cA T)) (C : Kok K cX1_routes 7 RX1) (B : CB K T) (hr : (kMe K).sig.returnType = none) (dK : kR K = rmC (4 + (rf + 1)) 0 0) (hQ : KQc K T none 0 0 g τ) (x0 : Nat) (x1 : Int32) (x2 : Int32) (x3 : Int32) (x4 : Int32) (d : CD) (hf : f_X1_routes_L52 rs n g x0 x1 x2 x3 x4 d = some τ) : XJ K 7 (Wc K T 0 0 g d) 52 [(0, .ref x0), (1, .int x1), (2, .int x2), (3, .int x3), (4, .int x4)] [] := by
  unfold f_X1_routes_L52 at hf
  refine x_iload_n C dX1_routes_52 1 rfl ?_
  refine x_iload_n C dX1_routes_53 2 rfl ?_
  refine x_icmp_ne (tgt := 58) C dX1_routes_54 (by decide) (fun c1 => ?_) (fun c1 => ?_)
  · have hf := pf_f c1 hf
    refine x_aload_n C dX1_routes_58 0 rfl ?_
    obtain ⟨t2, hf⟩ := pf_ch hf
    obtain ⟨p3, ep3, hf⟩ := pf_b hf
    refine cg1_6 C B t2 (flo C q621) fsm ep3 dX1_routes_59 ?_
    obtain ⟨t4, hf⟩ := pf_ch hf
    obtain ⟨p5, ep5, hf⟩ := pf_b hf
    refine cg3_5 C B t4 (fln B q288) fsm ep5 dX1_routes_62 ?_
    refine x_aload_n C dX1_routes_65 0 rfl ?_
    obtain ⟨p6, ep6, hf⟩ := pf_b hf
    refine cg1_15 C B t2 (flo C q634) fsm ep6 dX1_routes_66 ?_
    refine x_iload_n C dX1_routes_69 1 rfl ?_
    refine x_iconst (1 : Int32) C dX1_routes_70 (by decide) ?_
    refine x_isub C dX1_routes_71 ?_
    obtain ⟨t7, hf⟩ := pf_ch hf
    obtain ⟨h8, hf⟩ := pf_in hf
    refine ca_ild C B t7 h8 dX1_routes_72 ?_
    obtain ⟨t9, hf⟩ := pf_ch hf
    obtain ⟨h10, hf⟩ := pf_in hf
    refine ca_ild C B t9 h10 dX1_routes_73 ?_
    refine x_iload_n C dX1_routes_74 3 rfl ?_
    refine x_iconst (-1 : Int32) C dX1_routes_75 (by decide) ?_
    refine x_ixor C dX1_routes_76 ?_
    refine x_iand C dX1_routes_77 ?_
    obtain ⟨v11, ev11, hf⟩ := pf_e hf
    refine x_topir ev11 ?_
    refine x_istore (L' := [(0, .ref x0), (1, .int x1), (2, .int x2), (3, .int x3), (4, .int x4), (5, .int v11)]) C dX1_routes_78 (Nat.le_of_ble_eq_true rfl) [1, 2, 3, 4, 5, 0] rfl ?_
    exact w_X1_routes_80 rs n g hrs C B hr dK hQ n x0 x1 x2 x3 x4 v11 _ hf
  · have hf := pf_t c1 hf
    obtain rfl := Option.some.inj hf
    exact c_vret C hr hQ dX1_routes_57
def f_X1_routes_L26 (rs : Nat → Int32 → Int32 → Int32 → Int32 → CD → Option CD) (n : Nat) (g : CG) (x0 : Nat) (x1 : Int32) (x2 : Int32) (x3 : Int32) (x4 : Int32) (d : CD) : Option CD := if ht g x0 = 1 then ev (wi d x0 19 x4) fun s2 => ev (wi s2 x0 20 x1) fun s3 => (hr g x0 15).bind fun p4 => (hr g x0 16).bind fun p5 => if ht g p4 = 100 then if ht g p5 = 100 then if cpok (0 : Int32) (0 : Int32) (8 : Int32) (hn g p4) (hn g p5) = true then ev (wa s3 p5 (va_cpy (hi s3 p4) (hi s3 p5) (Int32.toNatClampNeg (0 : Int32)) (Int32.toNatClampNeg (0 : Int32)) (Int32.toNatClampNeg (8 : Int32)))) fun s9 => f_X1_routes_L52 rs n g x0 x1 x2 x3 x4 s9 else none else none else none else none
set_option maxHeartbeats 4000000 in
theorem w_X1_routes_26 {K : KT} {T : CT} {τ : CD} (rs : Nat → Int32 → Int32 → Int32 → Int32 → CD → Option CD) (n : Nat) (g : CG) {rf : Nat} (hrs : ∀ (a0 : Nat) (a1 : Int32) (a2 : Int32) (a3 : Int32) (a4 : Int32) (d : CD) (v : CD), rs a0 a1 a2 a3 a4 d = some v → Met (kL K) yX1_routes (ws_ yX1_routes cX1_routes 7 none) (rmC (4 + rf) 0 0) (va_Pc [.ref a0, .int a1, .int a2, .int a3, .int a4] (CU T g d)) (Qc T none g v) 0 0 (cA T)) (C : Kok K cX1_routes 7 RX1) (B : CB K T) (hr : (kMe K).sig.returnType = none) (dK : kR K = rmC (4 + (rf + 1)) 0 0) (hQ : KQc K T none 0 0 g τ) (x0 : Nat) (x1 : Int32) (x2 : Int32) (x3 : Int32) (x4 : Int32) (d : CD) (hf : f_X1_routes_L26 rs n g x0 x1 x2 x3 x4 d = some τ) : XJ K 7 (Wc K T 0 0 g d) 26 [(0, .ref x0), (1, .int x1), (2, .int x2), (3, .int x3), (4, .int x4)] [] := by
  unfold f_X1_routes_L26 at hf
  refine x_aload_n C dX1_routes_26 0 rfl ?_
  refine x_iload C dX1_routes_27 4 rfl ?_
  obtain ⟨t1, hf⟩ := pf_ch hf
  refine cp1_19 C B t1 (flo C q638) fsm dX1_routes_29 ?_
  obtain ⟨s2, es2, hf⟩ := pf_e hf
  refine c_ren es2 ?_
  refine x_aload_n C dX1_routes_32 0 rfl ?_
  refine x_iload_n C dX1_routes_33 1 rfl ?_
  refine cp1_20 C B t1 (flo C q639) fsm dX1_routes_34 ?_
  obtain ⟨s3, es3, hf⟩ := pf_e hf
  refine c_ren es3 ?_
  refine x_aload_n C dX1_routes_37 0 rfl ?_
  obtain ⟨p4, ep4, hf⟩ := pf_b hf
  refine cg1_15 C B t1 (flo C q634) fsm ep4 dX1_routes_38 ?_
  refine x_iconst (0 : Int32) C dX1_routes_41 (by decide) ?_
  refine x_aload_n C dX1_routes_42 0 rfl ?_
  obtain ⟨p5, ep5, hf⟩ := pf_b hf
  refine cg1_16 C B t1 (flo C q635) fsm ep5 dX1_routes_43 ?_
  refine x_iconst (0 : Int32) C dX1_routes_46 (by decide) ?_
  refine x_bipush (8 : Int32) C dX1_routes_47 (by decide) ?_
  obtain ⟨t6, hf⟩ := pf_ch hf
  obtain ⟨t7, hf⟩ := pf_ch hf
  obtain ⟨h8, hf⟩ := pf_ch hf
  refine c_copyi C B q1055 q1037 q1036 q140 t6 t7 h8 dK (by omega) (Nat.le_of_ble_eq_true rfl) dX1_routes_49 ?_
  obtain ⟨s9, es9, hf⟩ := pf_e hf
  refine c_ren es9 ?_
  exact w_X1_routes_52 rs n g hrs C B hr dK hQ x0 x1 x2 x3 x4 _ hf
def g_X1_routes (rs : Nat → Int32 → Int32 → Int32 → Int32 → CD → Option CD) (n : Nat) (g : CG) (x0 : Nat) (x1 : Int32) (x2 : Int32) (x3 : Int32) (x4 : Int32) (d : CD) : Option CD := if ht g x0 = 1 then if (hi d x0 19) < x4 then (f_X1_routes_L26 rs n g x0 x1 x2 x3 x4 d) else (if x4 = (hi d x0 19) then (if (hi d x0 20) ≤ x1 then (f_X1_routes_L52 rs n g x0 x1 x2 x3 x4 d) else (f_X1_routes_L26 rs n g x0 x1 x2 x3 x4 d)) else (f_X1_routes_L52 rs n g x0 x1 x2 x3 x4 d)) else none
set_option maxHeartbeats 4000000 in
theorem w_X1_routes_E {K : KT} {T : CT} {τ : CD} (rs : Nat → Int32 → Int32 → Int32 → Int32 → CD → Option CD) (n : Nat) (g : CG) {rf : Nat} (hrs : ∀ (a0 : Nat) (a1 : Int32) (a2 : Int32) (a3 : Int32) (a4 : Int32) (d : CD) (v : CD), rs a0 a1 a2 a3 a4 d = some v → Met (kL K) yX1_routes (ws_ yX1_routes cX1_routes 7 none) (rmC (4 + rf) 0 0) (va_Pc [.ref a0, .int a1, .int a2, .int a3, .int a4] (CU T g d)) (Qc T none g v) 0 0 (cA T)) (C : Kok K cX1_routes 7 RX1) (B : CB K T) (hr : (kMe K).sig.returnType = none) (dK : kR K = rmC (4 + (rf + 1)) 0 0) (hQ : KQc K T none 0 0 g τ) (x0 : Nat) (x1 : Int32) (x2 : Int32) (x3 : Int32) (x4 : Int32) (d : CD) (hf : g_X1_routes rs n g x0 x1 x2 x3 x4 d = some τ) : XJ K 7 (Wc K T 0 0 g d) 0 [(0, .ref x0), (1, .int x1), (2, .int x2), (3, .int x3), (4, .int x4)] [] := by
  unfold g_X1_routes at hf
  refine x_iload C dX1_routes_0 4 rfl ?_
  refine x_aload_n C dX1_routes_2 0 rfl ?_
  obtain ⟨t1, hf⟩ := pf_ch hf
  refine cg1_19 C B t1 (flo C q638) fsm dX1_routes_3 ?_
  refine x_icmp_gt (tgt := 26) C dX1_routes_6 (by decide) (fun c2 => ?_) (fun c2 => ?_)
  · have hf := pf_t c2 hf
    exact w_X1_routes_26 rs n g hrs C B hr dK hQ x0 x1 x2 x3 x4 _ hf
  · have hf := pf_f c2 hf
    refine x_iload C dX1_routes_9 4 rfl ?_
    refine x_aload_n C dX1_routes_11 0 rfl ?_
    refine cg1_19 C B t1 (flo C q638) fsm dX1_routes_12 ?_
    refine x_icmp_ne (tgt := 52) C dX1_routes_15 (by decide) (fun c3 => ?_) (fun c3 => ?_)
    · have hf := pf_f c3 hf
      exact w_X1_routes_52 rs n g hrs C B hr dK hQ x0 x1 x2 x3 x4 _ hf
    · have hf := pf_t c3 hf
      refine x_iload_n C dX1_routes_18 1 rfl ?_
      refine x_aload_n C dX1_routes_19 0 rfl ?_
      refine cg1_20 C B t1 (flo C q639) fsm dX1_routes_20 ?_
      refine x_icmp_ge (tgt := 52) C dX1_routes_23 (by decide) (fun c4 => ?_) (fun c4 => ?_)
      · have hf := pf_t c4 hf
        exact w_X1_routes_52 rs n g hrs C B hr dK hQ x0 x1 x2 x3 x4 _ hf
      · have hf := pf_f c4 hf
        exact w_X1_routes_26 rs n g hrs C B hr dK hQ x0 x1 x2 x3 x4 _ hf
theorem metg_X1_routes {T : CT} {v : CD} {rs : Nat → Int32 → Int32 → Int32 → Int32 → CD → Option CD} {n : Nat} {g : CG} {d : CD} {x0 : Nat} {x1 : Int32} {x2 : Int32} {x3 : Int32} {x4 : Int32} {rf : Nat} {l : Launch} (hrs : ∀ (a0 : Nat) (a1 : Int32) (a2 : Int32) (a3 : Int32) (a4 : Int32) (d : CD) (v : CD), rs a0 a1 a2 a3 a4 d = some v → Met l yX1_routes (ws_ yX1_routes cX1_routes 7 none) (rmC (4 + rf) 0 0) (va_Pc [.ref a0, .int a1, .int a2, .int a3, .int a4] (CU T g d)) (Qc T none g v) 0 0 (cA T)) (hf : g_X1_routes rs n g x0 x1 x2 x3 x4 d = some v) : Met l yX1_routes (ws_ yX1_routes cX1_routes 7 none) (rmC (4 + (rf + 1)) 0 0) (va_Pc [.ref x0, .int x1, .int x2, .int x3, .int x4] (CU T g d)) (Qc T none g v) 0 0 (cA T) :=
  c_met [.ref x0, .int x1, .int x2, .int x3, .int x4] RX1 (by decide) rfl (Nat.le_of_ble_eq_true rfl) (fun K hl hR hr C B hQ => w_X1_routes_E _ _ _ (hl ▸ hrs) C B hr hR hQ _ _ _ _ _ _ hf)
def f_X1_routes (n : Nat) (g : CG) : Nat → Nat → Int32 → Int32 → Int32 → Int32 → CD → Option CD
  | 0 => fun _ _ _ _ _ _ => none
  | rf + 1 => fun x0 x1 x2 x3 x4 d => g_X1_routes (f_X1_routes n g rf) n g x0 x1 x2 x3 x4 d
theorem met_X1_routes {T : CT} {l : Launch} {n : Nat} {g : CG} : ∀ (rf : Nat) (x0 : Nat) (x1 : Int32) (x2 : Int32) (x3 : Int32) (x4 : Int32) (d : CD) (v : CD), f_X1_routes n g rf x0 x1 x2 x3 x4 d = some v → Met l yX1_routes (ws_ yX1_routes cX1_routes 7 none) (rmC (4 + rf) 0 0) (va_Pc [.ref x0, .int x1, .int x2, .int x3, .int x4] (CU T g d)) (Qc T none g v) 0 0 (cA T) := by
  intro rf
  induction rf with
  | zero => intro x0 x1 x2 x3 x4 d v hf; cases hf
  | succ rf ih =>
    intro x0 x1 x2 x3 x4 d v hf
    exact metg_X1_routes (rf := rf) (fun a0 a1 a2 a3 a4 d v h => ih a0 a1 a2 a3 a4 d v h) hf
theorem k_X1_routes_X1 {K : KT} {T : CT} {c0 s0 c1 s1 dk : Nat} {cc : ByteArray} {nL pc : Nat} {L : List (Nat × Value)} {rest : List Value} {g : CG} {d : CD} {v : CD} {n : Nat} {x0 : Nat} {x1 : Int32} {x2 : Int32} {x3 : Int32} {x4 : Int32} (C : Kok K cc nL RX1) (B : CB K T) (hta : ht g x0 = 1) (dK : kR K = rmC dk c1 s1) (hd : 68 + 1 ≤ dk) (hcs : c0 + 0 ≤ c1 ∧ s0 + 0 ≤ s1) (hf : f_X1_routes n g 64 x0 x1 x2 x3 x4 d = some v) (hW : (rest.map fun v => v.category).sum ≤ 8) (dd : decode cc pc = .ok (.invokevirtual 413, 3)) (kk2 : XJ K nL (Wc K T c0 s0 g v) (pc + 3) L (rest)) : XJ K nL (Wc K T c0 s0 g d) pc L (.int x4 :: .int x3 :: .int x2 :: .int x1 :: .ref x0 :: rest) :=
  c_callV (rest := rest) (v := none) [.int x1, .int x2, .int x3, .int x4] 4 rfl C B hta (by decide) (by decide) rfl dK hd (Nat.le_of_ble_eq_true rfl) hcs (lw_V q1188 q1190 qs24 q121 q1191) (by decide +kernel) (met_X1_routes 64 _ _ _ _ _ _ _ hf) rfl hW dd kk2
def f_X1_routeFrom (n : Nat) (g : CG) (x0 : Nat) (x1 : Int32) (x2 : Int32) (d : CD) : Option (Int32 × CD) := if ht g x0 = 1 then ev (wi d x0 19 (-1 : Int32)) fun s2 => ev (wi s2 x0 20 (0 : Int32)) fun s3 => (hr g x0 15).bind fun p4 => if ht g p4 = 100 then if inb (0 : Int32) (hn g p4) = true then ev (wi s3 p4 (Int32.toNatClampNeg (0 : Int32)) x1) fun s7 => (f_X1_bribeAt n g s7 x0 x1).bind fun r8 => (f_X1_routes n g 64 x0 (1 : Int32) x2 ((1 : Int32) <<< (x1 &&& 31)) r8 s7).bind fun r9 => some (hi r9 x0 19, r9) else none else none else none
set_option maxHeartbeats 4000000 in
theorem w_X1_routeFrom_E {K : KT} {T : CT} {r : Int32} {τ : CD} (n : Nat) (g : CG) (C : Kok K cX1_routeFrom 3 RX1) (B : CB K T) (hr : (kMe K).sig.returnType = (some .int)) (dK : kR K = rmC 69 0 0) (hQ : KQc K T (some (.int r)) 0 0 g τ) (x0 : Nat) (x1 : Int32) (x2 : Int32) (d : CD) (hf : f_X1_routeFrom n g x0 x1 x2 d = some (r, τ)) : XJ K 3 (Wc K T 0 0 g d) 0 [(0, .ref x0), (1, .int x1), (2, .int x2)] [] := by
  unfold f_X1_routeFrom at hf
  refine x_aload_n C dX1_routeFrom_0 0 rfl ?_
  refine x_iconst (-1 : Int32) C dX1_routeFrom_1 (by decide) ?_
  obtain ⟨t1, hf⟩ := pf_ch hf
  refine cp1_19 C B t1 (flo C q638) fsm dX1_routeFrom_2 ?_
  obtain ⟨s2, es2, hf⟩ := pf_e hf
  refine c_ren es2 ?_
  refine x_aload_n C dX1_routeFrom_5 0 rfl ?_
  refine x_iconst (0 : Int32) C dX1_routeFrom_6 (by decide) ?_
  refine cp1_20 C B t1 (flo C q639) fsm dX1_routeFrom_7 ?_
  obtain ⟨s3, es3, hf⟩ := pf_e hf
  refine c_ren es3 ?_
  refine x_aload_n C dX1_routeFrom_10 0 rfl ?_
  obtain ⟨p4, ep4, hf⟩ := pf_b hf
  refine cg1_15 C B t1 (flo C q634) fsm ep4 dX1_routeFrom_11 ?_
  refine x_iconst (0 : Int32) C dX1_routeFrom_14 (by decide) ?_
  refine x_iload_n C dX1_routeFrom_15 1 rfl ?_
  obtain ⟨t5, hf⟩ := pf_ch hf
  obtain ⟨h6, hf⟩ := pf_in hf
  refine ca_ist C B t5 h6 dX1_routeFrom_16 ?_
  obtain ⟨s7, es7, hf⟩ := pf_e hf
  refine c_ren es7 ?_
  refine x_aload_n C dX1_routeFrom_17 0 rfl ?_
  refine x_iconst (1 : Int32) C dX1_routeFrom_18 (by decide) ?_
  refine x_iload_n C dX1_routeFrom_19 2 rfl ?_
  refine x_iconst (1 : Int32) C dX1_routeFrom_20 (by decide) ?_
  refine x_iload_n C dX1_routeFrom_21 1 rfl ?_
  refine x_ishl C dX1_routeFrom_22 ?_
  refine x_aload_n C dX1_routeFrom_23 0 rfl ?_
  refine x_iload_n C dX1_routeFrom_24 1 rfl ?_
  obtain ⟨r8, er8, hf⟩ := pf_b hf
  refine k_X1_bribeAt_X1 C B t1 dK (Nat.le_of_ble_eq_true rfl) cz er8 (Nat.le_of_ble_eq_true rfl) dX1_routeFrom_25 ?_
  obtain ⟨r9, er9, hf⟩ := pf_b hf
  refine k_X1_routes_X1 C B t1 dK (Nat.le_of_ble_eq_true rfl) cz er9 (Nat.le_of_ble_eq_true rfl) dX1_routeFrom_28 ?_
  refine x_aload_n C dX1_routeFrom_31 0 rfl ?_
  refine cg1_19 C B t1 (flo C q638) fsm dX1_routeFrom_32 ?_
  obtain ⟨rfl, rfl⟩ := Prod.mk.inj (Option.some.inj hf)
  exact c_iret C hr hQ dX1_routeFrom_35
theorem met_X1_routeFrom {T : CT} {v : (Int32 × CD)} {n : Nat} {g : CG} {d : CD} {x0 : Nat} {x1 : Int32} {x2 : Int32} {l : Launch} (hf : f_X1_routeFrom n g x0 x1 x2 d = some v) : Met l yX1_routeFrom (ws_ yX1_routeFrom cX1_routeFrom 3 (some .int)) (rmC 69 0 0) (va_Pc [.ref x0, .int x1, .int x2] (CU T g d)) (Qc T (some (.int v.1)) g v.2) 0 0 (cA T) :=
  c_met [.ref x0, .int x1, .int x2] RX1 (by decide) rfl (Nat.le_of_ble_eq_true rfl) (fun K hl hR hr C B hQ => w_X1_routeFrom_E _ _ C B hr hR hQ _ _ _ _ hf)
theorem k_X1_isOnRoute_X1 {K : KT} {T : CT} {c0 s0 c1 s1 dk : Nat} {cc : ByteArray} {nL pc : Nat} {L : List (Nat × Value)} {rest : List Value} {g : CG} {d : CD} {v : Int32} {n : Nat} {x0 : Nat} {x1 : Int32} (C : Kok K cc nL RX1) (B : CB K T) (hta : ht g x0 = 1) (dK : kR K = rmC dk c1 s1) (hd : 2 + 1 ≤ dk) (hcs : c0 + 0 ≤ c1 ∧ s0 + 0 ≤ s1) (hf : f_X1_isOnRoute n g d x0 x1 = some v) (hW : (rest.map fun v => v.category).sum ≤ 8) (dd : decode cc pc = .ok (.invokevirtual 420, 3)) (kk2 : XJ K nL (Wc K T c0 s0 g d) (pc + 3) L ((.int v) :: rest)) : XJ K nL (Wc K T c0 s0 g d) pc L (.int x1 :: .ref x0 :: rest) :=
  c_callV (rest := rest) (v := (some (.int v))) [.int x1] 1 rfl C B hta (by decide) (by decide) rfl dK hd (Nat.le_of_ble_eq_true rfl) hcs (lw_V q1208 q1210 qs26 q121 q1211) (by decide +kernel) (met_X1_isOnRoute hf) rfl hW dd kk2
theorem k_X1_routeFrom_X1 {K : KT} {T : CT} {c0 s0 c1 s1 dk : Nat} {cc : ByteArray} {nL pc : Nat} {L : List (Nat × Value)} {rest : List Value} {g : CG} {d : CD} {v : (Int32 × CD)} {n : Nat} {x0 : Nat} {x1 : Int32} {x2 : Int32} (C : Kok K cc nL RX1) (B : CB K T) (hta : ht g x0 = 1) (dK : kR K = rmC dk c1 s1) (hd : 69 + 1 ≤ dk) (hcs : c0 + 0 ≤ c1 ∧ s0 + 0 ≤ s1) (hf : f_X1_routeFrom n g x0 x1 x2 d = some v) (hW : (rest.map fun v => v.category).sum ≤ 8) (dd : decode cc pc = .ok (.invokevirtual 417, 3)) (kk2 : XJ K nL (Wc K T c0 s0 g v.2) (pc + 3) L ((.int v.1) :: rest)) : XJ K nL (Wc K T c0 s0 g d) pc L (.int x2 :: .int x1 :: .ref x0 :: rest) :=
  c_callV (rest := rest) (v := (some (.int v.1))) [.int x1, .int x2] 2 rfl C B hta (by decide) (by decide) rfl dK hd (Nat.le_of_ble_eq_true rfl) hcs (lw_V q1180 q1182 qs22 q121 q1183) (by decide +kernel) (met_X1_routeFrom hf) rfl hW dd kk2
def f_X1_bidder_L9 (n : Nat) (g : CG) : Nat → Nat → Int32 → CD → Option (Int32 × CD)
  | 0, _, _, _ => none
  | m + 1, x0, x3, d => if ht g x0 = 1 then (hr g x0 6).bind fun p2 => if ht g p2 = 3 then if (hi d p2 20) ≤ x3 then (some ((-1 : Int32), d)) else ((hr g x0 7).bind fun p5 => if ht g p5 = 4 then (hr g p5 0).bind fun p7 => if ht g p7 = 105 then if inb x3 (hn g p7) = true then (hr g p7 (Int32.toNatClampNeg x3)).bind fun p10 => if ht g p10 = 5 then (f_X5_isGone g d p10).bind fun r12 => if r12 = 0 then ((f_X1_isOnRoute n g d x0 (hi d p10 1)).bind fun r14 => if r14 = 0 then ((hr g x0 17).bind fun p16 => if ht g p16 = 100 then if inb x3 (hn g p16) = true then if (hi d p10 2) ≤ (hi d p16 (Int32.toNatClampNeg x3)) then (f_X1_bidder_L9 n g m x0 (x3 + (1 : Int32)) d) else (some (x3, d)) else none else none) else (f_X1_bidder_L9 n g m x0 (x3 + (1 : Int32)) d)) else (f_X1_bidder_L9 n g m x0 (x3 + (1 : Int32)) d) else none else none else none else none) else none else none
set_option maxHeartbeats 4000000 in
theorem w_X1_bidder_9 {K : KT} {T : CT} {r : Int32} {τ : CD} (n : Nat) (g : CG) (C : Kok K cX1_bidder 4 RX1) (B : CB K T) (hr : (kMe K).sig.returnType = (some .int)) (dK : kR K = rmC 70 0 0) (hQ : KQc K T (some (.int r)) 0 0 g τ) : ∀ (m : Nat) (x0 : Nat) (x3 : Int32) (d : CD) (hf : f_X1_bidder_L9 n g m x0 x3 d = some (r, τ)), XJ K 4 (Wc K T 0 0 g d) 9 [(0, .ref x0), (3, .int x3)] [] := by
  intro m
  induction m with
  | zero => intro x0 x3 d hf; cases hf
  | succ m ih =>
    intro x0 x3 d hf
    rw [f_X1_bidder_L9] at hf
    refine x_iload_n C dX1_bidder_9 1 rfl ?_
    refine x_aload_n C dX1_bidder_10 0 rfl ?_
    obtain ⟨t1, hf⟩ := pf_ch hf
    obtain ⟨p2, ep2, hf⟩ := pf_b hf
    refine cg1_6 C B t1 (flo C q621) fsm ep2 dX1_bidder_11 ?_
    obtain ⟨t3, hf⟩ := pf_ch hf
    refine cg3_20 C B t3 (fln B q337) fsm dX1_bidder_14 ?_
    refine x_icmp_ge (tgt := 83) C dX1_bidder_17 (by decide) (fun c4 => ?_) (fun c4 => ?_)
    · have hf := pf_t c4 hf
      refine x_iconst (-1 : Int32) C dX1_bidder_83 (by decide) ?_
      obtain ⟨rfl, rfl⟩ := Prod.mk.inj (Option.some.inj hf)
      exact c_iret C hr hQ dX1_bidder_84
    · have hf := pf_f c4 hf
      refine x_aload_n C dX1_bidder_20 0 rfl ?_
      obtain ⟨p5, ep5, hf⟩ := pf_b hf
      refine cg1_7 C B t1 (flo C q624) fsm ep5 dX1_bidder_21 ?_
      obtain ⟨t6, hf⟩ := pf_ch hf
      obtain ⟨p7, ep7, hf⟩ := pf_b hf
      refine cg4_0 C B t6 (fln B q451) fsm ep7 dX1_bidder_24 ?_
      refine x_iload_n C dX1_bidder_27 1 rfl ?_
      obtain ⟨t8, hf⟩ := pf_ch hf
      obtain ⟨h9, hf⟩ := pf_in hf
      obtain ⟨p10, ep10, hf⟩ := pf_b hf
      refine ca_ald5 C B t8 h9 ep10 dX1_bidder_28 ?_
      obtain ⟨t11, hf⟩ := pf_ch hf
      obtain ⟨r12, er12, hf⟩ := pf_b hf
      refine k_X5_isGone_X1 C B t11 dK (Nat.le_of_ble_eq_true rfl) cz er12 (Nat.le_of_ble_eq_true rfl) dX1_bidder_29 ?_
      refine x_if_ne (tgt := 77) C dX1_bidder_32 (by decide) (fun c13 => ?_) (fun c13 => ?_)
      · have hf := pf_f c13 hf
        refine x_inc (c := (1 : Int32)) (L' := [(0, .ref x0), (3, .int (x3 + (1 : Int32)))]) C dX1_bidder_77 1 rfl (by decide) (Nat.le_of_ble_eq_true rfl) [1, 0] rfl ?_
        refine x_goto (tgt := 9) C dX1_bidder_80 (by decide) ?_
        exact ih x0 (x3 + (1 : Int32)) _ hf
      · have hf := pf_t c13 hf
        refine x_aload_n C dX1_bidder_35 0 rfl ?_
        refine x_aload_n C dX1_bidder_36 0 rfl ?_
        refine cg1_7 C B t1 (flo C q624) fsm ep5 dX1_bidder_37 ?_
        refine cg4_0 C B t6 (fln B q451) fsm ep7 dX1_bidder_40 ?_
        refine x_iload_n C dX1_bidder_43 1 rfl ?_
        refine ca_ald5 C B t8 h9 ep10 dX1_bidder_44 ?_
        refine cg5_1 C B t11 (fln B q417) fsm dX1_bidder_45 ?_
        obtain ⟨r14, er14, hf⟩ := pf_b hf
        refine k_X1_isOnRoute_X1 C B t1 dK (Nat.le_of_ble_eq_true rfl) cz er14 (Nat.le_of_ble_eq_true rfl) dX1_bidder_48 ?_
        refine x_if_ne (tgt := 77) C dX1_bidder_51 (by decide) (fun c15 => ?_) (fun c15 => ?_)
        · have hf := pf_f c15 hf
          refine x_inc (c := (1 : Int32)) (L' := [(0, .ref x0), (3, .int (x3 + (1 : Int32)))]) C dX1_bidder_77 1 rfl (by decide) (Nat.le_of_ble_eq_true rfl) [1, 0] rfl ?_
          refine x_goto (tgt := 9) C dX1_bidder_80 (by decide) ?_
          exact ih x0 (x3 + (1 : Int32)) _ hf
        · have hf := pf_t c15 hf
          refine x_aload_n C dX1_bidder_54 0 rfl ?_
          refine cg1_7 C B t1 (flo C q624) fsm ep5 dX1_bidder_55 ?_
          refine cg4_0 C B t6 (fln B q451) fsm ep7 dX1_bidder_58 ?_
          refine x_iload_n C dX1_bidder_61 1 rfl ?_
          refine ca_ald5 C B t8 h9 ep10 dX1_bidder_62 ?_
          refine cg5_2 C B t11 (fln B q421) fsm dX1_bidder_63 ?_
          refine x_aload_n C dX1_bidder_66 0 rfl ?_
          obtain ⟨p16, ep16, hf⟩ := pf_b hf
          refine cg1_17 C B t1 (flo C q636) fsm ep16 dX1_bidder_67 ?_
          refine x_iload_n C dX1_bidder_70 1 rfl ?_
          obtain ⟨t17, hf⟩ := pf_ch hf
          obtain ⟨h18, hf⟩ := pf_in hf
          refine ca_ild C B t17 h18 dX1_bidder_71 ?_
          refine x_icmp_le (tgt := 77) C dX1_bidder_72 (by decide) (fun c19 => ?_) (fun c19 => ?_)
          · have hf := pf_t c19 hf
            refine x_inc (c := (1 : Int32)) (L' := [(0, .ref x0), (3, .int (x3 + (1 : Int32)))]) C dX1_bidder_77 1 rfl (by decide) (Nat.le_of_ble_eq_true rfl) [1, 0] rfl ?_
            refine x_goto (tgt := 9) C dX1_bidder_80 (by decide) ?_
            exact ih x0 (x3 + (1 : Int32)) _ hf
          · have hf := pf_f c19 hf
            refine x_iload_n C dX1_bidder_75 1 rfl ?_
            obtain ⟨rfl, rfl⟩ := Prod.mk.inj (Option.some.inj hf)
            exact c_iret C hr hQ dX1_bidder_76
def f_X1_bidder (n : Nat) (g : CG) (x0 : Nat) (x1 : Int32) (x2 : Int32) (d : CD) : Option (Int32 × CD) := if ht g x0 = 1 then (f_X1_routeFrom n g x0 x1 x2 d).bind fun r2 => f_X1_bidder_L9 n g n x0 (0 : Int32) r2.2 else none
set_option maxHeartbeats 4000000 in
theorem w_X1_bidder_E {K : KT} {T : CT} {r : Int32} {τ : CD} (n : Nat) (g : CG) (C : Kok K cX1_bidder 4 RX1) (B : CB K T) (hr : (kMe K).sig.returnType = (some .int)) (dK : kR K = rmC 70 0 0) (hQ : KQc K T (some (.int r)) 0 0 g τ) (x0 : Nat) (x1 : Int32) (x2 : Int32) (d : CD) (hf : f_X1_bidder n g x0 x1 x2 d = some (r, τ)) : XJ K 4 (Wc K T 0 0 g d) 0 [(0, .ref x0), (1, .int x1), (2, .int x2)] [] := by
  unfold f_X1_bidder at hf
  refine x_aload_n C dX1_bidder_0 0 rfl ?_
  refine x_iload_n C dX1_bidder_1 1 rfl ?_
  refine x_iload_n C dX1_bidder_2 2 rfl ?_
  obtain ⟨t1, hf⟩ := pf_ch hf
  obtain ⟨r2, er2, hf⟩ := pf_b hf
  refine k_X1_routeFrom_X1 C B t1 dK (Nat.le_of_ble_eq_true rfl) cz er2 (Nat.le_of_ble_eq_true rfl) dX1_bidder_3 ?_
  refine x_pop C dX1_bidder_6 rfl ?_
  refine x_iconst (0 : Int32) C dX1_bidder_7 (by decide) ?_
  refine x_istore_n (L' := [(0, .ref x0), (3, .int (0 : Int32))]) C dX1_bidder_8 (Nat.le_of_ble_eq_true rfl) [1, 0] rfl ?_
  exact w_X1_bidder_9 n g C B hr dK hQ n x0 (0 : Int32) _ hf
theorem met_X1_bidder {T : CT} {v : (Int32 × CD)} {n : Nat} {g : CG} {d : CD} {x0 : Nat} {x1 : Int32} {x2 : Int32} {l : Launch} (hf : f_X1_bidder n g x0 x1 x2 d = some v) : Met l yX1_bidder (ws_ yX1_bidder cX1_bidder 4 (some .int)) (rmC 70 0 0) (va_Pc [.ref x0, .int x1, .int x2] (CU T g d)) (Qc T (some (.int v.1)) g v.2) 0 0 (cA T) :=
  c_met [.ref x0, .int x1, .int x2] RX1 (by decide) rfl (Nat.le_of_ble_eq_true rfl) (fun K hl hR hr C B hQ => w_X1_bidder_E _ _ C B hr hR hQ _ _ _ _ hf)
def f_X1_isSquare (g : CG) (d : CD) (x0 : Nat) (x1 : Int32) : Option Int32 := if ht g x0 = 1 then (hr g x0 6).bind fun p2 => if ht g p2 = 3 then some (f_X1_isIn x1 (0 : Int32) ((hi d p2 17) - (1 : Int32))) else none else none
set_option maxHeartbeats 4000000 in
theorem w_X1_isSquare_E {K : KT} {T : CT} {r : Int32} (g : CG) (d : CD) (C : Kok K cX1_isSquare 2 RX1) (B : CB K T) (hr : (kMe K).sig.returnType = (some .boolean)) (dK : kR K = rmC 3 0 0) (hQ : KQc K T (some (.int r)) 0 0 g d) (x0 : Nat) (x1 : Int32) (hf : f_X1_isSquare g d x0 x1 = some r) : XJ K 2 (Wc K T 0 0 g d) 0 [(0, .ref x0), (1, .int x1)] [] := by
  unfold f_X1_isSquare at hf
  refine x_iload_n C dX1_isSquare_0 1 rfl ?_
  refine x_iconst (0 : Int32) C dX1_isSquare_1 (by decide) ?_
  refine x_aload_n C dX1_isSquare_2 0 rfl ?_
  obtain ⟨t1, hf⟩ := pf_ch hf
  obtain ⟨p2, ep2, hf⟩ := pf_b hf
  refine cg1_6 C B t1 (flo C q621) fsm ep2 dX1_isSquare_3 ?_
  obtain ⟨t3, hf⟩ := pf_ch hf
  refine cg3_17 C B t3 (fln B q326) fsm dX1_isSquare_6 ?_
  refine x_iconst (1 : Int32) C dX1_isSquare_9 (by decide) ?_
  refine x_isub C dX1_isSquare_10 ?_
  refine k_X1_isIn_X1 C B dK (Nat.le_of_ble_eq_true rfl) cz rfl (Nat.le_of_ble_eq_true rfl) dX1_isSquare_11 ?_
  obtain rfl := Option.some.inj hf
  exact c_zret C hr (bz_X1_isIn_E rfl) hQ dX1_isSquare_14
theorem bz_X1_isSquare_E {r : Int32} {g : CG} {d : CD} {x0 : Nat} {x1 : Int32} (hf : f_X1_isSquare g d x0 x1 = some r) : r = 0 ∨ r = 1 := by
  unfold f_X1_isSquare at hf
  obtain ⟨t1, hf⟩ := pf_ch hf
  obtain ⟨p2, ep2, hf⟩ := pf_b hf
  obtain ⟨t3, hf⟩ := pf_ch hf
  obtain rfl := Option.some.inj hf
  exact (bz_X1_isIn_E rfl)
theorem met_X1_isSquare {T : CT} {v : Int32} {g : CG} {d : CD} {x0 : Nat} {x1 : Int32} {l : Launch} (hf : f_X1_isSquare g d x0 x1 = some v) : Met l yX1_isSquare (ws_ yX1_isSquare cX1_isSquare 2 (some .boolean)) (rmC 3 0 0) (va_Pc [.ref x0, .int x1] (CU T g d)) (Qc T (some (.int v)) g d) 0 0 (cA T) :=
  c_met [.ref x0, .int x1] RX1 (by decide) rfl (Nat.le_of_ble_eq_true rfl) (fun K hl hR hr C B hQ => w_X1_isSquare_E _ _ C B hr hR hQ _ _ hf)
theorem k_X1_bidder_X1 {K : KT} {T : CT} {c0 s0 c1 s1 dk : Nat} {cc : ByteArray} {nL pc : Nat} {L : List (Nat × Value)} {rest : List Value} {g : CG} {d : CD} {v : (Int32 × CD)} {n : Nat} {x0 : Nat} {x1 : Int32} {x2 : Int32} (C : Kok K cc nL RX1) (B : CB K T) (hta : ht g x0 = 1) (dK : kR K = rmC dk c1 s1) (hd : 70 + 1 ≤ dk) (hcs : c0 + 0 ≤ c1 ∧ s0 + 0 ≤ s1) (hf : f_X1_bidder n g x0 x1 x2 d = some v) (hW : (rest.map fun v => v.category).sum ≤ 8) (dd : decode cc pc = .ok (.invokevirtual 423, 3)) (kk2 : XJ K nL (Wc K T c0 s0 g v.2) (pc + 3) L ((.int v.1) :: rest)) : XJ K nL (Wc K T c0 s0 g d) pc L (.int x2 :: .int x1 :: .ref x0 :: rest) :=
  c_callV (rest := rest) (v := (some (.int v.1))) [.int x1, .int x2] 2 rfl C B hta (by decide) (by decide) rfl dK hd (Nat.le_of_ble_eq_true rfl) hcs (lw_V q1204 q1206 qs25 q121 q1207) (by decide +kernel) (met_X1_bidder hf) rfl hW dd kk2
theorem k_X1_isSquare_X1 {K : KT} {T : CT} {c0 s0 c1 s1 dk : Nat} {cc : ByteArray} {nL pc : Nat} {L : List (Nat × Value)} {rest : List Value} {g : CG} {d : CD} {v : Int32} {x0 : Nat} {x1 : Int32} (C : Kok K cc nL RX1) (B : CB K T) (hta : ht g x0 = 1) (dK : kR K = rmC dk c1 s1) (hd : 3 + 1 ≤ dk) (hcs : c0 + 0 ≤ c1 ∧ s0 + 0 ≤ s1) (hf : f_X1_isSquare g d x0 x1 = some v) (hW : (rest.map fun v => v.category).sum ≤ 8) (dd : decode cc pc = .ok (.invokevirtual 239, 3)) (kk2 : XJ K nL (Wc K T c0 s0 g d) (pc + 3) L ((.int v) :: rest)) : XJ K nL (Wc K T c0 s0 g d) pc L (.int x1 :: .ref x0 :: rest) :=
  c_callV (rest := rest) (v := (some (.int v))) [.int x1] 1 rfl C B hta (by decide) (by decide) rfl dK hd (Nat.le_of_ble_eq_true rfl) hcs (lw_V q969 q971 qs9 q121 q972) (by decide +kernel) (met_X1_isSquare hf) rfl hW dd kk2
def f_X1_bids_L86 (n : Nat) (g : CG) (x0 : Nat) (x3 : Int32) (d : CD) : Option (Int32 × CD) := if ht g x0 = 1 then (hr g x0 6).bind fun p2 => if ht g p2 = 3 then ev (wi d x0 22 (hi d p2 20)) fun s4 => (hr g x0 17).bind fun p5 => (hr g x0 18).bind fun p6 => if ht g p5 = 100 then if ht g p6 = 100 then if cpok (0 : Int32) (0 : Int32) (8 : Int32) (hn g p5) (hn g p6) = true then ev (wa s4 p6 (va_cpy (hi s4 p5) (hi s4 p6) (Int32.toNatClampNeg (0 : Int32)) (Int32.toNatClampNeg (0 : Int32)) (Int32.toNatClampNeg (8 : Int32)))) fun s10 => some (x3, s10) else none else none else none else none else none
set_option maxHeartbeats 4000000 in
theorem w_X1_bids_86 {K : KT} {T : CT} {r : Int32} {τ : CD} (n : Nat) (g : CG) (C : Kok K cX1_bids 5 RX1) (B : CB K T) (hr : (kMe K).sig.returnType = (some .int)) (dK : kR K = rmC 71 0 0) (hQ : KQc K T (some (.int r)) 0 0 g τ) (x0 : Nat) (x3 : Int32) (d : CD) (hf : f_X1_bids_L86 n g x0 x3 d = some (r, τ)) : XJ K 5 (Wc K T 0 0 g d) 86 [(0, .ref x0), (3, .int x3)] [] := by
  unfold f_X1_bids_L86 at hf
  refine x_aload_n C dX1_bids_86 0 rfl ?_
  refine x_aload_n C dX1_bids_87 0 rfl ?_
  obtain ⟨t1, hf⟩ := pf_ch hf
  obtain ⟨p2, ep2, hf⟩ := pf_b hf
  refine cg1_6 C B t1 (flo C q621) fsm ep2 dX1_bids_88 ?_
  obtain ⟨t3, hf⟩ := pf_ch hf
  refine cg3_20 C B t3 (fln B q337) fsm dX1_bids_91 ?_
  refine cp1_22 C B t1 (flo C q641) fsm dX1_bids_94 ?_
  obtain ⟨s4, es4, hf⟩ := pf_e hf
  refine c_ren es4 ?_
  refine x_aload_n C dX1_bids_97 0 rfl ?_
  obtain ⟨p5, ep5, hf⟩ := pf_b hf
  refine cg1_17 C B t1 (flo C q636) fsm ep5 dX1_bids_98 ?_
  refine x_iconst (0 : Int32) C dX1_bids_101 (by decide) ?_
  refine x_aload_n C dX1_bids_102 0 rfl ?_
  obtain ⟨p6, ep6, hf⟩ := pf_b hf
  refine cg1_18 C B t1 (flo C q637) fsm ep6 dX1_bids_103 ?_
  refine x_iconst (0 : Int32) C dX1_bids_106 (by decide) ?_
  refine x_bipush (8 : Int32) C dX1_bids_107 (by decide) ?_
  obtain ⟨t7, hf⟩ := pf_ch hf
  obtain ⟨t8, hf⟩ := pf_ch hf
  obtain ⟨h9, hf⟩ := pf_ch hf
  refine c_copyi C B q1055 q1037 q1036 q140 t7 t8 h9 dK (Nat.le_of_ble_eq_true rfl) (Nat.le_of_ble_eq_true rfl) dX1_bids_109 ?_
  obtain ⟨s10, es10, hf⟩ := pf_e hf
  refine c_ren es10 ?_
  refine x_iload_n C dX1_bids_112 1 rfl ?_
  obtain ⟨rfl, rfl⟩ := Prod.mk.inj (Option.some.inj hf)
  exact c_iret C hr hQ dX1_bids_113
def f_X1_bids_L43 (n : Nat) (g : CG) : Nat → Nat → Int32 → Int32 → Int32 → Int32 → CD → Option (Int32 × CD)
  | 0, _, _, _, _, _, _ => none
  | m + 1, x0, x1, x2, x3, x4, d => if x4 = (-1 : Int32) then (f_X1_bids_L86 n g x0 x3 d) else (if (60 : Int32) ≤ x3 then (f_X1_bids_L86 n g x0 x3 d) else (if ht g x0 = 1 then (f_X1_bidder n g x0 x1 x2 d).bind fun r4 => if r4.1 = (-1 : Int32) then (f_X1_bids_L43 n g m x0 x1 x2 (x3 + (1 : Int32)) r4.1 r4.2) else ((hr g x0 17).bind fun p6 => if ht g p6 = 100 then if inb r4.1 (hn g p6) = true then ev (wi r4.2 p6 (Int32.toNatClampNeg r4.1) ((hi r4.2 p6 (Int32.toNatClampNeg r4.1)) + (1 : Int32))) fun s9 => f_X1_bids_L43 n g m x0 x1 x2 (x3 + (1 : Int32)) r4.1 s9 else none else none) else none))
set_option maxHeartbeats 4000000 in
theorem w_X1_bids_43 {K : KT} {T : CT} {r : Int32} {τ : CD} (n : Nat) (g : CG) (C : Kok K cX1_bids 5 RX1) (B : CB K T) (hr : (kMe K).sig.returnType = (some .int)) (dK : kR K = rmC 71 0 0) (hQ : KQc K T (some (.int r)) 0 0 g τ) : ∀ (m : Nat) (x0 : Nat) (x1 : Int32) (x2 : Int32) (x3 : Int32) (x4 : Int32) (d : CD) (hf : f_X1_bids_L43 n g m x0 x1 x2 x3 x4 d = some (r, τ)), XJ K 5 (Wc K T 0 0 g d) 43 [(0, .ref x0), (1, .int x1), (2, .int x2), (3, .int x3), (4, .int x4)] [] := by
  intro m
  induction m with
  | zero => intro x0 x1 x2 x3 x4 d hf; cases hf
  | succ m ih =>
    intro x0 x1 x2 x3 x4 d hf
    rw [f_X1_bids_L43] at hf
    refine x_iload C dX1_bids_43 4 rfl ?_
    refine x_iconst (-1 : Int32) C dX1_bids_45 (by decide) ?_
    refine x_icmp_eq (tgt := 86) C dX1_bids_46 (by decide) (fun c1 => ?_) (fun c1 => ?_)
    · have hf := pf_t c1 hf
      refine x_sub [0, 3] (L' := [(0, .ref x0), (3, .int x3)]) rfl ?_
      exact w_X1_bids_86 n g C B hr dK hQ x0 x3 _ hf
    · have hf := pf_f c1 hf
      refine x_iload_n C dX1_bids_49 3 rfl ?_
      refine x_bipush (60 : Int32) C dX1_bids_50 (by decide) ?_
      refine x_icmp_ge (tgt := 86) C dX1_bids_52 (by decide) (fun c2 => ?_) (fun c2 => ?_)
      · have hf := pf_t c2 hf
        refine x_sub [0, 3] (L' := [(0, .ref x0), (3, .int x3)]) rfl ?_
        exact w_X1_bids_86 n g C B hr dK hQ x0 x3 _ hf
      · have hf := pf_f c2 hf
        refine x_aload_n C dX1_bids_55 0 rfl ?_
        refine x_iload_n C dX1_bids_56 1 rfl ?_
        refine x_iload_n C dX1_bids_57 2 rfl ?_
        obtain ⟨t3, hf⟩ := pf_ch hf
        obtain ⟨r4, er4, hf⟩ := pf_b hf
        refine k_X1_bidder_X1 C B t3 dK (Nat.le_of_ble_eq_true rfl) cz er4 (Nat.le_of_ble_eq_true rfl) dX1_bids_58 ?_
        refine x_istore (L' := [(0, .ref x0), (1, .int x1), (2, .int x2), (3, .int x3), (4, .int r4.1)]) C dX1_bids_61 (Nat.le_of_ble_eq_true rfl) [1, 2, 3, 4, 0] rfl ?_
        refine x_iload C dX1_bids_63 4 rfl ?_
        refine x_iconst (-1 : Int32) C dX1_bids_65 (by decide) ?_
        refine x_icmp_eq (tgt := 80) C dX1_bids_66 (by decide) (fun c5 => ?_) (fun c5 => ?_)
        · have hf := pf_t c5 hf
          refine x_inc (c := (1 : Int32)) (L' := [(0, .ref x0), (1, .int x1), (2, .int x2), (3, .int (x3 + (1 : Int32))), (4, .int r4.1)]) C dX1_bids_80 3 rfl (by decide) (Nat.le_of_ble_eq_true rfl) [1, 2, 3, 0, 4] rfl ?_
          refine x_goto (tgt := 43) C dX1_bids_83 (by decide) ?_
          exact ih x0 x1 x2 (x3 + (1 : Int32)) r4.1 _ hf
        · have hf := pf_f c5 hf
          refine x_aload_n C dX1_bids_69 0 rfl ?_
          obtain ⟨p6, ep6, hf⟩ := pf_b hf
          refine cg1_17 C B t3 (flo C q636) fsm ep6 dX1_bids_70 ?_
          refine x_iload C dX1_bids_73 4 rfl ?_
          refine x_dup2_11 C dX1_bids_75 rfl rfl ?_
          obtain ⟨t7, hf⟩ := pf_ch hf
          obtain ⟨h8, hf⟩ := pf_in hf
          refine ca_ild C B t7 h8 dX1_bids_76 ?_
          refine x_iconst (1 : Int32) C dX1_bids_77 (by decide) ?_
          refine x_iadd C dX1_bids_78 ?_
          refine ca_ist C B t7 h8 dX1_bids_79 ?_
          obtain ⟨s9, es9, hf⟩ := pf_e hf
          refine c_ren es9 ?_
          refine x_inc (c := (1 : Int32)) (L' := [(0, .ref x0), (1, .int x1), (2, .int x2), (3, .int (x3 + (1 : Int32))), (4, .int r4.1)]) C dX1_bids_80 3 rfl (by decide) (Nat.le_of_ble_eq_true rfl) [1, 2, 3, 0, 4] rfl ?_
          refine x_goto (tgt := 43) C dX1_bids_83 (by decide) ?_
          exact ih x0 x1 x2 (x3 + (1 : Int32)) r4.1 _ hf
def f_X1_bids (n : Nat) (g : CG) (x0 : Nat) (x1 : Int32) (x2 : Int32) (d : CD) : Option (Int32 × CD) := if ht g x0 = 1 then (f_X1_isSquare g d x0 x1).bind fun r2 => if r2 = 0 then (some ((-1 : Int32), d)) else (if (f_X1_isIn x2 (1 : Int32) (8 : Int32)) = 0 then (some ((-1 : Int32), d)) else ((hr g x0 6).bind fun p5 => if ht g p5 = 3 then (hr g p5 9).bind fun p7 => (hr g x0 17).bind fun p8 => if ht g p7 = 100 then if ht g p8 = 100 then if cpok (0 : Int32) (0 : Int32) (8 : Int32) (hn g p7) (hn g p8) = true then ev (wa d p8 (va_cpy (hi d p7) (hi d p8) (Int32.toNatClampNeg (0 : Int32)) (Int32.toNatClampNeg (0 : Int32)) (Int32.toNatClampNeg (8 : Int32)))) fun s12 => f_X1_bids_L43 n g n x0 x1 x2 (0 : Int32) (0 : Int32) s12 else none else none else none else none)) else none
set_option maxHeartbeats 4000000 in
theorem w_X1_bids_E {K : KT} {T : CT} {r : Int32} {τ : CD} (n : Nat) (g : CG) (C : Kok K cX1_bids 5 RX1) (B : CB K T) (hr : (kMe K).sig.returnType = (some .int)) (dK : kR K = rmC 71 0 0) (hQ : KQc K T (some (.int r)) 0 0 g τ) (x0 : Nat) (x1 : Int32) (x2 : Int32) (d : CD) (hf : f_X1_bids n g x0 x1 x2 d = some (r, τ)) : XJ K 5 (Wc K T 0 0 g d) 0 [(0, .ref x0), (1, .int x1), (2, .int x2)] [] := by
  unfold f_X1_bids at hf
  refine x_aload_n C dX1_bids_0 0 rfl ?_
  refine x_iload_n C dX1_bids_1 1 rfl ?_
  obtain ⟨t1, hf⟩ := pf_ch hf
  obtain ⟨r2, er2, hf⟩ := pf_b hf
  refine k_X1_isSquare_X1 C B t1 dK (Nat.le_of_ble_eq_true rfl) cz er2 (Nat.le_of_ble_eq_true rfl) dX1_bids_2 ?_
  refine x_if_eq (tgt := 18) C dX1_bids_5 (by decide) (fun c3 => ?_) (fun c3 => ?_)
  · have hf := pf_t c3 hf
    refine x_iconst (-1 : Int32) C dX1_bids_18 (by decide) ?_
    obtain ⟨rfl, rfl⟩ := Prod.mk.inj (Option.some.inj hf)
    exact c_iret C hr hQ dX1_bids_19
  · have hf := pf_f c3 hf
    refine x_iload_n C dX1_bids_8 2 rfl ?_
    refine x_iconst (1 : Int32) C dX1_bids_9 (by decide) ?_
    refine x_bipush (8 : Int32) C dX1_bids_10 (by decide) ?_
    refine k_X1_isIn_X1 C B dK (Nat.le_of_ble_eq_true rfl) cz rfl (Nat.le_of_ble_eq_true rfl) dX1_bids_12 ?_
    refine x_if_ne (tgt := 20) C dX1_bids_15 (by decide) (fun c4 => ?_) (fun c4 => ?_)
    · have hf := pf_f c4 hf
      refine x_aload_n C dX1_bids_20 0 rfl ?_
      obtain ⟨p5, ep5, hf⟩ := pf_b hf
      refine cg1_6 C B t1 (flo C q621) fsm ep5 dX1_bids_21 ?_
      obtain ⟨t6, hf⟩ := pf_ch hf
      obtain ⟨p7, ep7, hf⟩ := pf_b hf
      refine cg3_9 C B t6 (fln B q300) fsm ep7 dX1_bids_24 ?_
      refine x_iconst (0 : Int32) C dX1_bids_27 (by decide) ?_
      refine x_aload_n C dX1_bids_28 0 rfl ?_
      obtain ⟨p8, ep8, hf⟩ := pf_b hf
      refine cg1_17 C B t1 (flo C q636) fsm ep8 dX1_bids_29 ?_
      refine x_iconst (0 : Int32) C dX1_bids_32 (by decide) ?_
      refine x_bipush (8 : Int32) C dX1_bids_33 (by decide) ?_
      obtain ⟨t9, hf⟩ := pf_ch hf
      obtain ⟨t10, hf⟩ := pf_ch hf
      obtain ⟨h11, hf⟩ := pf_ch hf
      refine c_copyi C B q1055 q1037 q1036 q140 t9 t10 h11 dK (Nat.le_of_ble_eq_true rfl) (Nat.le_of_ble_eq_true rfl) dX1_bids_35 ?_
      obtain ⟨s12, es12, hf⟩ := pf_e hf
      refine c_ren es12 ?_
      refine x_iconst (0 : Int32) C dX1_bids_38 (by decide) ?_
      refine x_istore_n (L' := [(0, .ref x0), (1, .int x1), (2, .int x2), (3, .int (0 : Int32))]) C dX1_bids_39 (Nat.le_of_ble_eq_true rfl) [1, 2, 3, 0] rfl ?_
      refine x_iconst (0 : Int32) C dX1_bids_40 (by decide) ?_
      refine x_istore (L' := [(0, .ref x0), (1, .int x1), (2, .int x2), (3, .int (0 : Int32)), (4, .int (0 : Int32))]) C dX1_bids_41 (Nat.le_of_ble_eq_true rfl) [1, 2, 3, 4, 0] rfl ?_
      exact w_X1_bids_43 n g C B hr dK hQ n x0 x1 x2 (0 : Int32) (0 : Int32) _ hf
    · have hf := pf_t c4 hf
      refine x_iconst (-1 : Int32) C dX1_bids_18 (by decide) ?_
      obtain ⟨rfl, rfl⟩ := Prod.mk.inj (Option.some.inj hf)
      exact c_iret C hr hQ dX1_bids_19
theorem met_X1_bids {T : CT} {v : (Int32 × CD)} {n : Nat} {g : CG} {d : CD} {x0 : Nat} {x1 : Int32} {x2 : Int32} {l : Launch} (hf : f_X1_bids n g x0 x1 x2 d = some v) : Met l yX1_bids (ws_ yX1_bids cX1_bids 5 (some .int)) (rmC 71 0 0) (va_Pc [.ref x0, .int x1, .int x2] (CU T g d)) (Qc T (some (.int v.1)) g v.2) 0 0 (cA T) :=
  c_met [.ref x0, .int x1, .int x2] RX1 (by decide) rfl (Nat.le_of_ble_eq_true rfl) (fun K hl hR hr C B hQ => w_X1_bids_E _ _ C B hr hR hQ _ _ _ _ hf)
def f_X1_byteAt (g : CG) (d : CD) (x0 : Nat) (x1 : Int32) : Option Int32 := if ht g x0 = 1 then if (f_X1_isIn x1 (0 : Int32) ((hi d x0 35) - (1 : Int32))) = 0 then (some (-1 : Int32)) else ((hr g x0 34).bind fun p3 => if ht g p3 = 103 then if inb x1 (hn g p3) = true then some (hi d p3 (Int32.toNatClampNeg x1)) else none else none) else none
set_option maxHeartbeats 4000000 in
theorem w_X1_byteAt_E {K : KT} {T : CT} {r : Int32} (g : CG) (d : CD) (C : Kok K cX1_byteAt 2 RX1) (B : CB K T) (hr : (kMe K).sig.returnType = (some .int)) (dK : kR K = rmC 3 0 0) (hQ : KQc K T (some (.int r)) 0 0 g d) (x0 : Nat) (x1 : Int32) (hf : f_X1_byteAt g d x0 x1 = some r) : XJ K 2 (Wc K T 0 0 g d) 0 [(0, .ref x0), (1, .int x1)] [] := by
  unfold f_X1_byteAt at hf
  refine x_iload_n C dX1_byteAt_0 1 rfl ?_
  refine x_iconst (0 : Int32) C dX1_byteAt_1 (by decide) ?_
  refine x_aload_n C dX1_byteAt_2 0 rfl ?_
  obtain ⟨t1, hf⟩ := pf_ch hf
  refine cg1_35 C B t1 (flo C q654) fsm dX1_byteAt_3 ?_
  refine x_iconst (1 : Int32) C dX1_byteAt_6 (by decide) ?_
  refine x_isub C dX1_byteAt_7 ?_
  refine k_X1_isIn_X1 C B dK (Nat.le_of_ble_eq_true rfl) cz rfl (Nat.le_of_ble_eq_true rfl) dX1_byteAt_8 ?_
  refine x_if_eq (tgt := 23) C dX1_byteAt_11 (by decide) (fun c2 => ?_) (fun c2 => ?_)
  · have hf := pf_t c2 hf
    refine x_iconst (-1 : Int32) C dX1_byteAt_23 (by decide) ?_
    obtain rfl := Option.some.inj hf
    exact c_iret C hr hQ dX1_byteAt_24
  · have hf := pf_f c2 hf
    refine x_aload_n C dX1_byteAt_14 0 rfl ?_
    obtain ⟨p3, ep3, hf⟩ := pf_b hf
    refine cg1_34 C B t1 (flo C q653) fsm ep3 dX1_byteAt_15 ?_
    refine x_iload_n C dX1_byteAt_18 1 rfl ?_
    obtain ⟨t4, hf⟩ := pf_ch hf
    obtain ⟨h5, hf⟩ := pf_in hf
    refine ca_bld C B t4 h5 dX1_byteAt_19 ?_
    refine x_goto (tgt := 24) C dX1_byteAt_20 (by decide) ?_
    obtain rfl := Option.some.inj hf
    exact c_iret C hr hQ dX1_byteAt_24
theorem met_X1_byteAt {T : CT} {v : Int32} {g : CG} {d : CD} {x0 : Nat} {x1 : Int32} {l : Launch} (hf : f_X1_byteAt g d x0 x1 = some v) : Met l yX1_byteAt (ws_ yX1_byteAt cX1_byteAt 2 (some .int)) (rmC 3 0 0) (va_Pc [.ref x0, .int x1] (CU T g d)) (Qc T (some (.int v)) g d) 0 0 (cA T) :=
  c_met [.ref x0, .int x1] RX1 (by decide) rfl (Nat.le_of_ble_eq_true rfl) (fun K hl hR hr C B hQ => w_X1_byteAt_E _ _ C B hr hR hQ _ _ hf)
def f_X1_count (g : CG) (d : CD) (x0 : Nat) (x1 : Int32) : Option Int32 := if x1 = (0 : Int32) then (if ht g x0 = 1 then (hr g x0 6).bind fun p9 => if ht g p9 = 3 then some (hi d p9 17) else none else none) else (if x1 = (1 : Int32) then (if ht g x0 = 1 then (hr g x0 6).bind fun p12 => if ht g p12 = 3 then some (hi d p12 18) else none else none) else (if x1 = (2 : Int32) then (if ht g x0 = 1 then (hr g x0 6).bind fun p15 => if ht g p15 = 3 then some (hi d p15 19) else none else none) else (if x1 = (3 : Int32) then (if ht g x0 = 1 then (hr g x0 6).bind fun p18 => if ht g p18 = 3 then some (hi d p18 20) else none else none) else (if x1 = (4 : Int32) then (if ht g x0 = 1 then (hr g x0 6).bind fun p21 => if ht g p21 = 3 then some (hi d p21 21) else none else none) else (if x1 = (5 : Int32) then (if ht g x0 = 1 then (hr g x0 6).bind fun p24 => if ht g p24 = 3 then some (hi d p24 22) else none else none) else (if x1 = (6 : Int32) then (if ht g x0 = 1 then some (hi d x0 1) else none) else (some (-1 : Int32))))))))
set_option maxHeartbeats 4000000 in
theorem w_X1_count_E {K : KT} {T : CT} {r : Int32} (g : CG) (d : CD) (C : Kok K cX1_count 2 RX1) (B : CB K T) (hr : (kMe K).sig.returnType = (some .int)) (dK : kR K = rmC 2 0 0) (hQ : KQc K T (some (.int r)) 0 0 g d) (x0 : Nat) (x1 : Int32) (hf : f_X1_count g d x0 x1 = some r) : XJ K 2 (Wc K T 0 0 g d) 0 [(0, .ref x0), (1, .int x1)] [] := by
  unfold f_X1_count at hf
  refine x_iload_n C dX1_count_0 1 rfl ?_
  by_cases c1 : x1 = (0 : Int32)
  · have hf := pf_t c1 hf
    refine x_tableIn (off := 43) (tgt := 44) C dX1_count_1 (by rw [c1]; decide) (by rw [c1]; decide) (by rw [c1]; decide) (by decide) ?_
    refine x_aload_n C dX1_count_44 0 rfl ?_
    obtain ⟨t8, hf⟩ := pf_ch hf
    obtain ⟨p9, ep9, hf⟩ := pf_b hf
    refine cg1_6 C B t8 (flo C q621) fsm ep9 dX1_count_45 ?_
    obtain ⟨t10, hf⟩ := pf_ch hf
    refine cg3_17 C B t10 (fln B q326) fsm dX1_count_48 ?_
    obtain rfl := Option.some.inj hf
    exact c_iret C hr hQ dX1_count_51
  · have hf := pf_f c1 hf
    by_cases c2 : x1 = (1 : Int32)
    · have hf := pf_t c2 hf
      refine x_tableIn (off := 51) (tgt := 52) C dX1_count_1 (by rw [c2]; decide) (by rw [c2]; decide) (by rw [c2]; decide) (by decide) ?_
      refine x_aload_n C dX1_count_52 0 rfl ?_
      obtain ⟨t11, hf⟩ := pf_ch hf
      obtain ⟨p12, ep12, hf⟩ := pf_b hf
      refine cg1_6 C B t11 (flo C q621) fsm ep12 dX1_count_53 ?_
      obtain ⟨t13, hf⟩ := pf_ch hf
      refine cg3_18 C B t13 (fln B q328) fsm dX1_count_56 ?_
      obtain rfl := Option.some.inj hf
      exact c_iret C hr hQ dX1_count_59
    · have hf := pf_f c2 hf
      by_cases c3 : x1 = (2 : Int32)
      · have hf := pf_t c3 hf
        refine x_tableIn (off := 59) (tgt := 60) C dX1_count_1 (by rw [c3]; decide) (by rw [c3]; decide) (by rw [c3]; decide) (by decide) ?_
        refine x_aload_n C dX1_count_60 0 rfl ?_
        obtain ⟨t14, hf⟩ := pf_ch hf
        obtain ⟨p15, ep15, hf⟩ := pf_b hf
        refine cg1_6 C B t14 (flo C q621) fsm ep15 dX1_count_61 ?_
        obtain ⟨t16, hf⟩ := pf_ch hf
        refine cg3_19 C B t16 (fln B q333) fsm dX1_count_64 ?_
        obtain rfl := Option.some.inj hf
        exact c_iret C hr hQ dX1_count_67
      · have hf := pf_f c3 hf
        by_cases c4 : x1 = (3 : Int32)
        · have hf := pf_t c4 hf
          refine x_tableIn (off := 67) (tgt := 68) C dX1_count_1 (by rw [c4]; decide) (by rw [c4]; decide) (by rw [c4]; decide) (by decide) ?_
          refine x_aload_n C dX1_count_68 0 rfl ?_
          obtain ⟨t17, hf⟩ := pf_ch hf
          obtain ⟨p18, ep18, hf⟩ := pf_b hf
          refine cg1_6 C B t17 (flo C q621) fsm ep18 dX1_count_69 ?_
          obtain ⟨t19, hf⟩ := pf_ch hf
          refine cg3_20 C B t19 (fln B q337) fsm dX1_count_72 ?_
          obtain rfl := Option.some.inj hf
          exact c_iret C hr hQ dX1_count_75
        · have hf := pf_f c4 hf
          by_cases c5 : x1 = (4 : Int32)
          · have hf := pf_t c5 hf
            refine x_tableIn (off := 75) (tgt := 76) C dX1_count_1 (by rw [c5]; decide) (by rw [c5]; decide) (by rw [c5]; decide) (by decide) ?_
            refine x_aload_n C dX1_count_76 0 rfl ?_
            obtain ⟨t20, hf⟩ := pf_ch hf
            obtain ⟨p21, ep21, hf⟩ := pf_b hf
            refine cg1_6 C B t20 (flo C q621) fsm ep21 dX1_count_77 ?_
            obtain ⟨t22, hf⟩ := pf_ch hf
            refine cg3_21 C B t22 (fln B q341) fsm dX1_count_80 ?_
            obtain rfl := Option.some.inj hf
            exact c_iret C hr hQ dX1_count_83
          · have hf := pf_f c5 hf
            by_cases c6 : x1 = (5 : Int32)
            · have hf := pf_t c6 hf
              refine x_tableIn (off := 83) (tgt := 84) C dX1_count_1 (by rw [c6]; decide) (by rw [c6]; decide) (by rw [c6]; decide) (by decide) ?_
              refine x_aload_n C dX1_count_84 0 rfl ?_
              obtain ⟨t23, hf⟩ := pf_ch hf
              obtain ⟨p24, ep24, hf⟩ := pf_b hf
              refine cg1_6 C B t23 (flo C q621) fsm ep24 dX1_count_85 ?_
              obtain ⟨t25, hf⟩ := pf_ch hf
              refine cg3_22 C B t25 (fln B q345) fsm dX1_count_88 ?_
              obtain rfl := Option.some.inj hf
              exact c_iret C hr hQ dX1_count_91
            · have hf := pf_f c6 hf
              by_cases c7 : x1 = (6 : Int32)
              · have hf := pf_t c7 hf
                refine x_tableIn (off := 91) (tgt := 92) C dX1_count_1 (by rw [c7]; decide) (by rw [c7]; decide) (by rw [c7]; decide) (by decide) ?_
                refine x_aload_n C dX1_count_92 0 rfl ?_
                obtain ⟨t26, hf⟩ := pf_ch hf
                refine cg1_1 C B t26 (flo C q611) fsm dX1_count_93 ?_
                obtain rfl := Option.some.inj hf
                exact c_iret C hr hQ dX1_count_96
              · have hf := pf_f c7 hf
                refine x_tableOut (tgt := 97) C dX1_count_1 (by have := lv_neT c1 (show (0 : Int32).toInt = (0 : Int) by decide); have := lv_neT c2 (show (1 : Int32).toInt = (1 : Int) by decide); have := lv_neT c3 (show (2 : Int32).toInt = (2 : Int) by decide); have := lv_neT c4 (show (3 : Int32).toInt = (3 : Int) by decide); have := lv_neT c5 (show (4 : Int32).toInt = (4 : Int) by decide); have := lv_neT c6 (show (5 : Int32).toInt = (5 : Int) by decide); have := lv_neT c7 (show (6 : Int32).toInt = (6 : Int) by decide); omega) (by decide) ?_
                refine x_iconst (-1 : Int32) C dX1_count_97 (by decide) ?_
                obtain rfl := Option.some.inj hf
                exact c_iret C hr hQ dX1_count_98
theorem met_X1_count {T : CT} {v : Int32} {g : CG} {d : CD} {x0 : Nat} {x1 : Int32} {l : Launch} (hf : f_X1_count g d x0 x1 = some v) : Met l yX1_count (ws_ yX1_count cX1_count 2 (some .int)) (rmC 2 0 0) (va_Pc [.ref x0, .int x1] (CU T g d)) (Qc T (some (.int v)) g d) 0 0 (cA T) :=
  c_met [.ref x0, .int x1] RX1 (by decide) rfl (Nat.le_of_ble_eq_true rfl) (fun K hl hR hr C B hQ => w_X1_count_E _ _ C B hr hR hQ _ _ hf)
def f_X1_curedTried (g : CG) (x0 : Nat) (x1 : Int32) (x2 : Int32) (x3 : Int32) (d : CD) : Option CD := if ht g x0 = 1 then (hr g x0 26).bind fun p2 => if ht g p2 = 100 then if inb (0 : Int32) (hn g p2) = true then ev (wi d p2 (Int32.toNatClampNeg (0 : Int32)) x1) fun s5 => if inb (1 : Int32) (hn g p2) = true then ev (wi s5 p2 (Int32.toNatClampNeg (1 : Int32)) x2) fun s7 => if inb (2 : Int32) (hn g p2) = true then ev (wi s7 p2 (Int32.toNatClampNeg (2 : Int32)) x3) fun s9 => some s9 else none else none else none else none else none
set_option maxHeartbeats 4000000 in
theorem w_X1_curedTried_E {K : KT} {T : CT} {τ : CD} (g : CG) (C : Kok K cX1_curedTried 4 RX1) (B : CB K T) (hr : (kMe K).sig.returnType = none) (dK : kR K = rmC 2 0 0) (hQ : KQc K T none 0 0 g τ) (x0 : Nat) (x1 : Int32) (x2 : Int32) (x3 : Int32) (d : CD) (hf : f_X1_curedTried g x0 x1 x2 x3 d = some τ) : XJ K 4 (Wc K T 0 0 g d) 0 [(0, .ref x0), (1, .int x1), (2, .int x2), (3, .int x3)] [] := by
  unfold f_X1_curedTried at hf
  refine x_aload_n C dX1_curedTried_0 0 rfl ?_
  obtain ⟨t1, hf⟩ := pf_ch hf
  obtain ⟨p2, ep2, hf⟩ := pf_b hf
  refine cg1_26 C B t1 (flo C q645) fsm ep2 dX1_curedTried_1 ?_
  refine x_iconst (0 : Int32) C dX1_curedTried_4 (by decide) ?_
  refine x_iload_n C dX1_curedTried_5 1 rfl ?_
  obtain ⟨t3, hf⟩ := pf_ch hf
  obtain ⟨h4, hf⟩ := pf_in hf
  refine ca_ist C B t3 h4 dX1_curedTried_6 ?_
  obtain ⟨s5, es5, hf⟩ := pf_e hf
  refine c_ren es5 ?_
  refine x_aload_n C dX1_curedTried_7 0 rfl ?_
  refine cg1_26 C B t1 (flo C q645) fsm ep2 dX1_curedTried_8 ?_
  refine x_iconst (1 : Int32) C dX1_curedTried_11 (by decide) ?_
  refine x_iload_n C dX1_curedTried_12 2 rfl ?_
  obtain ⟨h6, hf⟩ := pf_in hf
  refine ca_ist C B t3 h6 dX1_curedTried_13 ?_
  obtain ⟨s7, es7, hf⟩ := pf_e hf
  refine c_ren es7 ?_
  refine x_aload_n C dX1_curedTried_14 0 rfl ?_
  refine cg1_26 C B t1 (flo C q645) fsm ep2 dX1_curedTried_15 ?_
  refine x_iconst (2 : Int32) C dX1_curedTried_18 (by decide) ?_
  refine x_iload_n C dX1_curedTried_19 3 rfl ?_
  obtain ⟨h8, hf⟩ := pf_in hf
  refine ca_ist C B t3 h8 dX1_curedTried_20 ?_
  obtain ⟨s9, es9, hf⟩ := pf_e hf
  refine c_ren es9 ?_
  obtain rfl := Option.some.inj hf
  exact c_vret C hr hQ dX1_curedTried_21
theorem met_X1_curedTried {T : CT} {v : CD} {g : CG} {d : CD} {x0 : Nat} {x1 : Int32} {x2 : Int32} {x3 : Int32} {l : Launch} (hf : f_X1_curedTried g x0 x1 x2 x3 d = some v) : Met l yX1_curedTried (ws_ yX1_curedTried cX1_curedTried 4 none) (rmC 2 0 0) (va_Pc [.ref x0, .int x1, .int x2, .int x3] (CU T g d)) (Qc T none g v) 0 0 (cA T) :=
  c_met [.ref x0, .int x1, .int x2, .int x3] RX1 (by decide) rfl (Nat.le_of_ble_eq_true rfl) (fun K hl hR hr C B hQ => w_X1_curedTried_E _ C B hr hR hQ _ _ _ _ _ hf)
def f_X1_isStatue (g : CG) (d : CD) (x0 : Nat) (x1 : Int32) : Option Int32 := if ht g x0 = 1 then (hr g x0 6).bind fun p2 => if ht g p2 = 3 then some (f_X1_isIn x1 (0 : Int32) ((hi d p2 20) - (1 : Int32))) else none else none
set_option maxHeartbeats 4000000 in
theorem w_X1_isStatue_E {K : KT} {T : CT} {r : Int32} (g : CG) (d : CD) (C : Kok K cX1_isStatue 2 RX1) (B : CB K T) (hr : (kMe K).sig.returnType = (some .boolean)) (dK : kR K = rmC 3 0 0) (hQ : KQc K T (some (.int r)) 0 0 g d) (x0 : Nat) (x1 : Int32) (hf : f_X1_isStatue g d x0 x1 = some r) : XJ K 2 (Wc K T 0 0 g d) 0 [(0, .ref x0), (1, .int x1)] [] := by
  unfold f_X1_isStatue at hf
  refine x_iload_n C dX1_isStatue_0 1 rfl ?_
  refine x_iconst (0 : Int32) C dX1_isStatue_1 (by decide) ?_
  refine x_aload_n C dX1_isStatue_2 0 rfl ?_
  obtain ⟨t1, hf⟩ := pf_ch hf
  obtain ⟨p2, ep2, hf⟩ := pf_b hf
  refine cg1_6 C B t1 (flo C q621) fsm ep2 dX1_isStatue_3 ?_
  obtain ⟨t3, hf⟩ := pf_ch hf
  refine cg3_20 C B t3 (fln B q337) fsm dX1_isStatue_6 ?_
  refine x_iconst (1 : Int32) C dX1_isStatue_9 (by decide) ?_
  refine x_isub C dX1_isStatue_10 ?_
  refine k_X1_isIn_X1 C B dK (Nat.le_of_ble_eq_true rfl) cz rfl (Nat.le_of_ble_eq_true rfl) dX1_isStatue_11 ?_
  obtain rfl := Option.some.inj hf
  exact c_zret C hr (bz_X1_isIn_E rfl) hQ dX1_isStatue_14
theorem bz_X1_isStatue_E {r : Int32} {g : CG} {d : CD} {x0 : Nat} {x1 : Int32} (hf : f_X1_isStatue g d x0 x1 = some r) : r = 0 ∨ r = 1 := by
  unfold f_X1_isStatue at hf
  obtain ⟨t1, hf⟩ := pf_ch hf
  obtain ⟨p2, ep2, hf⟩ := pf_b hf
  obtain ⟨t3, hf⟩ := pf_ch hf
  obtain rfl := Option.some.inj hf
  exact (bz_X1_isIn_E rfl)
theorem met_X1_isStatue {T : CT} {v : Int32} {g : CG} {d : CD} {x0 : Nat} {x1 : Int32} {l : Launch} (hf : f_X1_isStatue g d x0 x1 = some v) : Met l yX1_isStatue (ws_ yX1_isStatue cX1_isStatue 2 (some .boolean)) (rmC 3 0 0) (va_Pc [.ref x0, .int x1] (CU T g d)) (Qc T (some (.int v)) g d) 0 0 (cA T) :=
  c_met [.ref x0, .int x1] RX1 (by decide) rfl (Nat.le_of_ble_eq_true rfl) (fun K hl hR hr C B hQ => w_X1_isStatue_E _ _ C B hr hR hQ _ _ hf)
theorem k_X1_isStatue_X1 {K : KT} {T : CT} {c0 s0 c1 s1 dk : Nat} {cc : ByteArray} {nL pc : Nat} {L : List (Nat × Value)} {rest : List Value} {g : CG} {d : CD} {v : Int32} {x0 : Nat} {x1 : Int32} (C : Kok K cc nL RX1) (B : CB K T) (hta : ht g x0 = 1) (dK : kR K = rmC dk c1 s1) (hd : 3 + 1 ≤ dk) (hcs : c0 + 0 ≤ c1 ∧ s0 + 0 ≤ s1) (hf : f_X1_isStatue g d x0 x1 = some v) (hW : (rest.map fun v => v.category).sum ≤ 8) (dd : decode cc pc = .ok (.invokevirtual 225, 3)) (kk2 : XJ K nL (Wc K T c0 s0 g d) (pc + 3) L ((.int v) :: rest)) : XJ K nL (Wc K T c0 s0 g d) pc L (.int x1 :: .ref x0 :: rest) :=
  c_callV (rest := rest) (v := (some (.int v))) [.int x1] 1 rfl C B hta (by decide) (by decide) rfl dK hd (Nat.le_of_ble_eq_true rfl) hcs (lw_V q1042 q1044 qs12 q121 q1045) (by decide +kernel) (met_X1_isStatue hf) rfl hW dd kk2
def f_X1_isHere (g : CG) (d : CD) (x0 : Nat) (x1 : Int32) : Option Int32 := if ht g x0 = 1 then (f_X1_isStatue g d x0 x1).bind fun r2 => if r2 = 0 then (some (0 : Int32)) else ((hr g x0 7).bind fun p4 => if ht g p4 = 4 then (hr g p4 0).bind fun p6 => if ht g p6 = 105 then if inb x1 (hn g p6) = true then (hr g p6 (Int32.toNatClampNeg x1)).bind fun p9 => if ht g p9 = 5 then (f_X5_isGone g d p9).bind fun r11 => if r11 = 0 then (some (1 : Int32)) else (some (0 : Int32)) else none else none else none else none) else none
set_option maxHeartbeats 4000000 in
theorem w_X1_isHere_E {K : KT} {T : CT} {r : Int32} (g : CG) (d : CD) (C : Kok K cX1_isHere 2 RX1) (B : CB K T) (hr : (kMe K).sig.returnType = (some .boolean)) (dK : kR K = rmC 4 0 0) (hQ : KQc K T (some (.int r)) 0 0 g d) (x0 : Nat) (x1 : Int32) (hf : f_X1_isHere g d x0 x1 = some r) : XJ K 2 (Wc K T 0 0 g d) 0 [(0, .ref x0), (1, .int x1)] [] := by
  unfold f_X1_isHere at hf
  refine x_aload_n C dX1_isHere_0 0 rfl ?_
  refine x_iload_n C dX1_isHere_1 1 rfl ?_
  obtain ⟨t1, hf⟩ := pf_ch hf
  obtain ⟨r2, er2, hf⟩ := pf_b hf
  refine k_X1_isStatue_X1 C B t1 dK (Nat.le_of_ble_eq_true rfl) cz er2 (Nat.le_of_ble_eq_true rfl) dX1_isHere_2 ?_
  refine x_if_eq (tgt := 27) C dX1_isHere_5 (by decide) (fun c3 => ?_) (fun c3 => ?_)
  · have hf := pf_t c3 hf
    refine x_iconst (0 : Int32) C dX1_isHere_27 (by decide) ?_
    obtain rfl := Option.some.inj hf
    exact c_zret C hr (Or.inl rfl) hQ dX1_isHere_28
  · have hf := pf_f c3 hf
    refine x_aload_n C dX1_isHere_8 0 rfl ?_
    obtain ⟨p4, ep4, hf⟩ := pf_b hf
    refine cg1_7 C B t1 (flo C q624) fsm ep4 dX1_isHere_9 ?_
    obtain ⟨t5, hf⟩ := pf_ch hf
    obtain ⟨p6, ep6, hf⟩ := pf_b hf
    refine cg4_0 C B t5 (fln B q451) fsm ep6 dX1_isHere_12 ?_
    refine x_iload_n C dX1_isHere_15 1 rfl ?_
    obtain ⟨t7, hf⟩ := pf_ch hf
    obtain ⟨h8, hf⟩ := pf_in hf
    obtain ⟨p9, ep9, hf⟩ := pf_b hf
    refine ca_ald5 C B t7 h8 ep9 dX1_isHere_16 ?_
    obtain ⟨t10, hf⟩ := pf_ch hf
    obtain ⟨r11, er11, hf⟩ := pf_b hf
    refine k_X5_isGone_X1 C B t10 dK (Nat.le_of_ble_eq_true rfl) cz er11 (Nat.le_of_ble_eq_true rfl) dX1_isHere_17 ?_
    refine x_if_ne (tgt := 27) C dX1_isHere_20 (by decide) (fun c12 => ?_) (fun c12 => ?_)
    · have hf := pf_f c12 hf
      refine x_iconst (0 : Int32) C dX1_isHere_27 (by decide) ?_
      obtain rfl := Option.some.inj hf
      exact c_zret C hr (Or.inl rfl) hQ dX1_isHere_28
    · have hf := pf_t c12 hf
      refine x_iconst (1 : Int32) C dX1_isHere_23 (by decide) ?_
      refine x_goto (tgt := 28) C dX1_isHere_24 (by decide) ?_
      obtain rfl := Option.some.inj hf
      exact c_zret C hr (Or.inr rfl) hQ dX1_isHere_28
theorem bz_X1_isHere_E {r : Int32} {g : CG} {d : CD} {x0 : Nat} {x1 : Int32} (hf : f_X1_isHere g d x0 x1 = some r) : r = 0 ∨ r = 1 := by
  unfold f_X1_isHere at hf
  obtain ⟨t1, hf⟩ := pf_ch hf
  obtain ⟨r2, er2, hf⟩ := pf_b hf
  by_cases c3 : r2 = 0
  · have hf := pf_t c3 hf
    obtain rfl := Option.some.inj hf
    exact (Or.inl rfl)
  · have hf := pf_f c3 hf
    obtain ⟨p4, ep4, hf⟩ := pf_b hf
    obtain ⟨t5, hf⟩ := pf_ch hf
    obtain ⟨p6, ep6, hf⟩ := pf_b hf
    obtain ⟨t7, hf⟩ := pf_ch hf
    obtain ⟨h8, hf⟩ := pf_in hf
    obtain ⟨p9, ep9, hf⟩ := pf_b hf
    obtain ⟨t10, hf⟩ := pf_ch hf
    obtain ⟨r11, er11, hf⟩ := pf_b hf
    by_cases c12 : r11 = 0
    · have hf := pf_t c12 hf
      obtain rfl := Option.some.inj hf
      exact (Or.inr rfl)
    · have hf := pf_f c12 hf
      obtain rfl := Option.some.inj hf
      exact (Or.inl rfl)
theorem met_X1_isHere {T : CT} {v : Int32} {g : CG} {d : CD} {x0 : Nat} {x1 : Int32} {l : Launch} (hf : f_X1_isHere g d x0 x1 = some v) : Met l yX1_isHere (ws_ yX1_isHere cX1_isHere 2 (some .boolean)) (rmC 4 0 0) (va_Pc [.ref x0, .int x1] (CU T g d)) (Qc T (some (.int v)) g d) 0 0 (cA T) :=
  c_met [.ref x0, .int x1] RX1 (by decide) rfl (Nat.le_of_ble_eq_true rfl) (fun K hl hR hr C B hQ => w_X1_isHere_E _ _ C B hr hR hQ _ _ hf)
theorem k_X1_curedTried_X1 {K : KT} {T : CT} {c0 s0 c1 s1 dk : Nat} {cc : ByteArray} {nL pc : Nat} {L : List (Nat × Value)} {rest : List Value} {g : CG} {d : CD} {v : CD} {x0 : Nat} {x1 : Int32} {x2 : Int32} {x3 : Int32} (C : Kok K cc nL RX1) (B : CB K T) (hta : ht g x0 = 1) (dK : kR K = rmC dk c1 s1) (hd : 2 + 1 ≤ dk) (hcs : c0 + 0 ≤ c1 ∧ s0 + 0 ≤ s1) (hf : f_X1_curedTried g x0 x1 x2 x3 d = some v) (hW : (rest.map fun v => v.category).sum ≤ 8) (dd : decode cc pc = .ok (.invokevirtual 426, 3)) (kk2 : XJ K nL (Wc K T c0 s0 g v) (pc + 3) L (rest)) : XJ K nL (Wc K T c0 s0 g d) pc L (.int x3 :: .int x2 :: .int x1 :: .ref x0 :: rest) :=
  c_callV (rest := rest) (v := none) [.int x1, .int x2, .int x3] 3 rfl C B hta (by decide) (by decide) rfl dK hd (Nat.le_of_ble_eq_true rfl) hcs (lw_V q1220 q1222 qs27 q121 q1223) (by decide +kernel) (met_X1_curedTried hf) rfl hW dd kk2
theorem k_X1_all_X1 {K : KT} {T : CT} {c0 s0 c1 s1 dk : Nat} {cc : ByteArray} {nL pc : Nat} {L : List (Nat × Value)} {rest : List Value} {g : CG} {d : CD} {v : Int32} {x0 : Nat} (C : Kok K cc nL RX1) (B : CB K T) (hta : ht g x0 = 1) (dK : kR K = rmC dk c1 s1) (hd : 2 + 1 ≤ dk) (hcs : c0 + 0 ≤ c1 ∧ s0 + 0 ≤ s1) (hf : f_X1_all g d x0 = some v) (hW : (rest.map fun v => v.category).sum ≤ 8) (dd : decode cc pc = .ok (.invokevirtual 361, 3)) (kk2 : XJ K nL (Wc K T c0 s0 g d) (pc + 3) L ((.int v) :: rest)) : XJ K nL (Wc K T c0 s0 g d) pc L (.ref x0 :: rest) :=
  c_callV (rest := rest) (v := (some (.int v))) [] 0 rfl C B hta (by decide) (by decide) rfl dK hd (Nat.le_of_ble_eq_true rfl) hcs (lw_V q1138 q1140 qs17 q121 q1141) (by decide +kernel) (met_X1_all hf) rfl hW dd kk2
theorem k_X1_isHere_X1 {K : KT} {T : CT} {c0 s0 c1 s1 dk : Nat} {cc : ByteArray} {nL pc : Nat} {L : List (Nat × Value)} {rest : List Value} {g : CG} {d : CD} {v : Int32} {x0 : Nat} {x1 : Int32} (C : Kok K cc nL RX1) (B : CB K T) (hta : ht g x0 = 1) (dK : kR K = rmC dk c1 s1) (hd : 4 + 1 ≤ dk) (hcs : c0 + 0 ≤ c1 ∧ s0 + 0 ≤ s1) (hf : f_X1_isHere g d x0 x1 = some v) (hW : (rest.map fun v => v.category).sum ≤ 8) (dd : decode cc pc = .ok (.invokevirtual 380, 3)) (kk2 : XJ K nL (Wc K T c0 s0 g d) (pc + 3) L ((.int v) :: rest)) : XJ K nL (Wc K T c0 s0 g d) pc L (.int x1 :: .ref x0 :: rest) :=
  c_callV (rest := rest) (v := (some (.int v))) [.int x1] 1 rfl C B hta (by decide) (by decide) rfl dK hd (Nat.le_of_ble_eq_true rfl) hcs (lw_V q1160 q1162 qs19 q121 q1163) (by decide +kernel) (met_X1_isHere hf) rfl hW dd kk2
def f_X1_cure_L179 (n : Nat) (g : CG) (k25 : Nat → Nat → Int32 → Int32 → CD → Option (Int32 × CD)) (k40 : Nat → Nat → Int32 → Int32 → Int32 → CD → Option (Int32 × CD)) (k84 : Nat → Nat → Int32 → Int32 → Int32 → Int32 → CD → Option (Int32 × CD)) (x0 : Nat) (x2 : Nat) (x3 : Int32) (x4 : Int32) (x5 : Int32) (x6 : Int32) (x7 : Int32) (y0 : Nat) (y1 : Int32) (y2 : Int32) (y3 : Int32) (y4 : Int32) (d : CD) : Option (Int32 × CD) := if ht g y0 = 3 then (f_X3_isEnough n g d y0 y1 y2 y3 y4).bind fun r2 => if r2 = 0 then (k84 x0 x2 x3 x4 x5 (x6 + (1 : Int32)) d) else (if ht g x0 = 1 then (f_X1_curedTried g x0 x6 x4 x5 d).bind fun r5 => k84 x0 x2 x7 x4 x5 (x6 + (1 : Int32)) r5 else none) else none
set_option maxHeartbeats 4000000 in
theorem w_X1_cure_179 {K : KT} {T : CT} {r : Int32} {τ : CD} (n : Nat) (g : CG) (k25 : Nat → Nat → Int32 → Int32 → CD → Option (Int32 × CD)) (k40 : Nat → Nat → Int32 → Int32 → Int32 → CD → Option (Int32 × CD)) (k84 : Nat → Nat → Int32 → Int32 → Int32 → Int32 → CD → Option (Int32 × CD)) (C : Kok K cX1_cure 8 RX1) (B : CB K T) (hr : (kMe K).sig.returnType = (some .int)) (dK : kR K = rmC 5 0 0) (hQ : KQc K T (some (.int r)) 0 0 g τ)  (hk25 : ∀ (x0 : Nat) (x2 : Nat) (x3 : Int32) (x4 : Int32) (d : CD), k25 x0 x2 x3 x4 d = some (r, τ) → XJ K 8 (Wc K T 0 0 g d) 25 [(0, .ref x0), (2, .ref x2), (3, .int x3), (4, .int x4)] []) (hk40 : ∀ (x0 : Nat) (x2 : Nat) (x3 : Int32) (x4 : Int32) (x5 : Int32) (d : CD), k40 x0 x2 x3 x4 x5 d = some (r, τ) → XJ K 8 (Wc K T 0 0 g d) 40 [(0, .ref x0), (2, .ref x2), (3, .int x3), (4, .int x4), (5, .int x5)] []) (hk84 : ∀ (x0 : Nat) (x2 : Nat) (x3 : Int32) (x4 : Int32) (x5 : Int32) (x6 : Int32) (d : CD), k84 x0 x2 x3 x4 x5 x6 d = some (r, τ) → XJ K 8 (Wc K T 0 0 g d) 84 [(0, .ref x0), (2, .ref x2), (3, .int x3), (4, .int x4), (5, .int x5), (6, .int x6)] []) (x0 : Nat) (x2 : Nat) (x3 : Int32) (x4 : Int32) (x5 : Int32) (x6 : Int32) (x7 : Int32) (y0 : Nat) (y1 : Int32) (y2 : Int32) (y3 : Int32) (y4 : Int32) (d : CD) (hf : f_X1_cure_L179 n g k25 k40 k84 x0 x2 x3 x4 x5 x6 x7 y0 y1 y2 y3 y4 d = some (r, τ)) : XJ K 8 (Wc K T 0 0 g d) 179 [(0, .ref x0), (2, .ref x2), (3, .int x3), (4, .int x4), (5, .int x5), (6, .int x6), (7, .int x7)] [.int y4, .int y3, .int y2, .int y1, .ref y0] := by
  unfold f_X1_cure_L179 at hf
  obtain ⟨t1, hf⟩ := pf_ch hf
  obtain ⟨r2, er2, hf⟩ := pf_b hf
  refine k_X3_isEnough_X1 C B t1 dK (Nat.le_of_ble_eq_true rfl) cz er2 (Nat.le_of_ble_eq_true rfl) dX1_cure_179 ?_
  refine x_if_ne (tgt := 188) C dX1_cure_182 (by decide) (fun c3 => ?_) (fun c3 => ?_)
  · have hf := pf_f c3 hf
    refine x_iload C dX1_cure_188 6 rfl ?_
    refine x_istore_n (L' := [(0, .ref x0), (2, .ref x2), (3, .int x7), (4, .int x4), (5, .int x5), (6, .int x6)]) C dX1_cure_190 (Nat.le_of_ble_eq_true rfl) [1, 2, 0, 3, 4, 5] rfl ?_
    refine x_aload_n C dX1_cure_191 0 rfl ?_
    refine x_iload C dX1_cure_192 5 rfl ?_
    refine x_iload C dX1_cure_194 3 rfl ?_
    refine x_iload C dX1_cure_196 4 rfl ?_
    obtain ⟨t4, hf⟩ := pf_ch hf
    obtain ⟨r5, er5, hf⟩ := pf_b hf
    refine k_X1_curedTried_X1 C B t4 dK (Nat.le_of_ble_eq_true rfl) cz er5 (Nat.le_of_ble_eq_true rfl) dX1_cure_198 ?_
    refine x_inc (c := (1 : Int32)) (L' := [(0, .ref x0), (2, .ref x2), (3, .int x7), (4, .int x4), (5, .int x5), (6, .int (x6 + (1 : Int32)))]) C dX1_cure_201 5 rfl (by decide) (Nat.le_of_ble_eq_true rfl) [1, 2, 3, 4, 5, 0] rfl ?_
    refine x_goto (tgt := 84) C dX1_cure_204 (by decide) ?_
    exact hk84 x0 x2 x7 x4 x5 (x6 + (1 : Int32)) _ hf
  · have hf := pf_t c3 hf
    refine x_goto (tgt := 201) C dX1_cure_185 (by decide) ?_
    refine x_inc (c := (1 : Int32)) (L' := [(0, .ref x0), (2, .ref x2), (3, .int x3), (4, .int x4), (5, .int x5), (6, .int (x6 + (1 : Int32)))]) C dX1_cure_201 5 rfl (by decide) (Nat.le_of_ble_eq_true rfl) [1, 2, 3, 4, 5, 0] rfl ?_
    refine x_goto (tgt := 84) C dX1_cure_204 (by decide) ?_
    exact hk84 x0 x2 x3 x4 x5 (x6 + (1 : Int32)) _ hf
def f_X1_cure_L150 (n : Nat) (g : CG) (k25 : Nat → Nat → Int32 → Int32 → CD → Option (Int32 × CD)) (k40 : Nat → Nat → Int32 → Int32 → Int32 → CD → Option (Int32 × CD)) (k84 : Nat → Nat → Int32 → Int32 → Int32 → Int32 → CD → Option (Int32 × CD)) (x0 : Nat) (x2 : Nat) (x3 : Int32) (x4 : Int32) (x5 : Int32) (x6 : Int32) (x7 : Int32) (d : CD) : Option (Int32 × CD) := if ht g x0 = 1 then (hr g x0 6).bind fun p2 => (f_X1_all g d x0).bind fun r3 => if ht g x2 = 5 then if (hi d x2 5) = 0 then (f_X1_cure_L179 n g k25 k40 k84 x0 x2 x3 x4 x5 x6 x7 p2 r3 x5 x4 (0 : Int32) d) else (if x6 = 0 then (f_X1_cure_L179 n g k25 k40 k84 x0 x2 x3 x4 x5 x6 x7 p2 r3 x5 x4 (1 : Int32) d) else (f_X1_cure_L179 n g k25 k40 k84 x0 x2 x3 x4 x5 x6 x7 p2 r3 x5 x4 (0 : Int32) d)) else none else none
set_option maxHeartbeats 4000000 in
theorem w_X1_cure_150 {K : KT} {T : CT} {r : Int32} {τ : CD} (n : Nat) (g : CG) (k25 : Nat → Nat → Int32 → Int32 → CD → Option (Int32 × CD)) (k40 : Nat → Nat → Int32 → Int32 → Int32 → CD → Option (Int32 × CD)) (k84 : Nat → Nat → Int32 → Int32 → Int32 → Int32 → CD → Option (Int32 × CD)) (C : Kok K cX1_cure 8 RX1) (B : CB K T) (hr : (kMe K).sig.returnType = (some .int)) (dK : kR K = rmC 5 0 0) (hQ : KQc K T (some (.int r)) 0 0 g τ)  (hk25 : ∀ (x0 : Nat) (x2 : Nat) (x3 : Int32) (x4 : Int32) (d : CD), k25 x0 x2 x3 x4 d = some (r, τ) → XJ K 8 (Wc K T 0 0 g d) 25 [(0, .ref x0), (2, .ref x2), (3, .int x3), (4, .int x4)] []) (hk40 : ∀ (x0 : Nat) (x2 : Nat) (x3 : Int32) (x4 : Int32) (x5 : Int32) (d : CD), k40 x0 x2 x3 x4 x5 d = some (r, τ) → XJ K 8 (Wc K T 0 0 g d) 40 [(0, .ref x0), (2, .ref x2), (3, .int x3), (4, .int x4), (5, .int x5)] []) (hk84 : ∀ (x0 : Nat) (x2 : Nat) (x3 : Int32) (x4 : Int32) (x5 : Int32) (x6 : Int32) (d : CD), k84 x0 x2 x3 x4 x5 x6 d = some (r, τ) → XJ K 8 (Wc K T 0 0 g d) 84 [(0, .ref x0), (2, .ref x2), (3, .int x3), (4, .int x4), (5, .int x5), (6, .int x6)] []) (x0 : Nat) (x2 : Nat) (x3 : Int32) (x4 : Int32) (x5 : Int32) (x6 : Int32) (x7 : Int32) (d : CD) (hf : f_X1_cure_L150 n g k25 k40 k84 x0 x2 x3 x4 x5 x6 x7 d = some (r, τ)) : XJ K 8 (Wc K T 0 0 g d) 150 [(0, .ref x0), (2, .ref x2), (3, .int x3), (4, .int x4), (5, .int x5), (6, .int x6), (7, .int x7)] [] := by
  unfold f_X1_cure_L150 at hf
  refine x_aload_n C dX1_cure_150 0 rfl ?_
  obtain ⟨t1, hf⟩ := pf_ch hf
  obtain ⟨p2, ep2, hf⟩ := pf_b hf
  refine cg1_6 C B t1 (flo C q621) fsm ep2 dX1_cure_151 ?_
  refine x_aload_n C dX1_cure_154 0 rfl ?_
  obtain ⟨r3, er3, hf⟩ := pf_b hf
  refine k_X1_all_X1 C B t1 dK (Nat.le_of_ble_eq_true rfl) cz er3 (Nat.le_of_ble_eq_true rfl) dX1_cure_155 ?_
  refine x_iload C dX1_cure_158 4 rfl ?_
  refine x_iload C dX1_cure_160 3 rfl ?_
  refine x_aload_n C dX1_cure_162 1 rfl ?_
  obtain ⟨t4, hf⟩ := pf_ch hf
  refine cg5_5 C B t4 (fln B q433) fsm dX1_cure_163 ?_
  refine x_if_eq (tgt := 178) C dX1_cure_166 (by decide) (fun c5 => ?_) (fun c5 => ?_)
  · have hf := pf_t c5 hf
    refine x_iconst (0 : Int32) C dX1_cure_178 (by decide) ?_
    exact w_X1_cure_179 n g _ _ _ C B hr dK hQ hk25 hk40 hk84 x0 x2 x3 x4 x5 x6 x7 p2 r3 x5 x4 (0 : Int32) _ hf
  · have hf := pf_f c5 hf
    refine x_iload C dX1_cure_169 5 rfl ?_
    refine x_if_ne (tgt := 178) C dX1_cure_171 (by decide) (fun c6 => ?_) (fun c6 => ?_)
    · have hf := pf_f c6 hf
      refine x_iconst (0 : Int32) C dX1_cure_178 (by decide) ?_
      exact w_X1_cure_179 n g _ _ _ C B hr dK hQ hk25 hk40 hk84 x0 x2 x3 x4 x5 x6 x7 p2 r3 x5 x4 (0 : Int32) _ hf
    · have hf := pf_t c6 hf
      refine x_iconst (1 : Int32) C dX1_cure_174 (by decide) ?_
      refine x_goto (tgt := 179) C dX1_cure_175 (by decide) ?_
      exact w_X1_cure_179 n g _ _ _ C B hr dK hQ hk25 hk40 hk84 x0 x2 x3 x4 x5 x6 x7 p2 r3 x5 x4 (1 : Int32) _ hf
def f_X1_cure_L120 (n : Nat) (g : CG) (k25 : Nat → Nat → Int32 → Int32 → CD → Option (Int32 × CD)) (k40 : Nat → Nat → Int32 → Int32 → Int32 → CD → Option (Int32 × CD)) (k84 : Nat → Nat → Int32 → Int32 → Int32 → Int32 → CD → Option (Int32 × CD)) (x0 : Nat) (x2 : Nat) (x3 : Int32) (x4 : Int32) (x5 : Int32) (x6 : Int32) (y0 : Int32) (y1 : Int32) (d : CD) : Option (Int32 × CD) := if ht g x2 = 5 then if x5 = (hi d x2 1) then (ev ((y0 + y1) + (0 : Int32)) fun v6 => if x3 = (-1 : Int32) then (f_X1_cure_L150 n g k25 k40 k84 x0 x2 x3 x4 x5 x6 v6 d) else (if x3 ≤ v6 then (k84 x0 x2 x3 x4 x5 (x6 + (1 : Int32)) d) else (f_X1_cure_L150 n g k25 k40 k84 x0 x2 x3 x4 x5 x6 v6 d))) else (ev ((y0 + y1) + (8 : Int32)) fun v3 => if x3 = (-1 : Int32) then (f_X1_cure_L150 n g k25 k40 k84 x0 x2 x3 x4 x5 x6 v3 d) else (if x3 ≤ v3 then (k84 x0 x2 x3 x4 x5 (x6 + (1 : Int32)) d) else (f_X1_cure_L150 n g k25 k40 k84 x0 x2 x3 x4 x5 x6 v3 d))) else none
set_option maxHeartbeats 4000000 in
theorem w_X1_cure_120 {K : KT} {T : CT} {r : Int32} {τ : CD} (n : Nat) (g : CG) (k25 : Nat → Nat → Int32 → Int32 → CD → Option (Int32 × CD)) (k40 : Nat → Nat → Int32 → Int32 → Int32 → CD → Option (Int32 × CD)) (k84 : Nat → Nat → Int32 → Int32 → Int32 → Int32 → CD → Option (Int32 × CD)) (C : Kok K cX1_cure 8 RX1) (B : CB K T) (hr : (kMe K).sig.returnType = (some .int)) (dK : kR K = rmC 5 0 0) (hQ : KQc K T (some (.int r)) 0 0 g τ)  (hk25 : ∀ (x0 : Nat) (x2 : Nat) (x3 : Int32) (x4 : Int32) (d : CD), k25 x0 x2 x3 x4 d = some (r, τ) → XJ K 8 (Wc K T 0 0 g d) 25 [(0, .ref x0), (2, .ref x2), (3, .int x3), (4, .int x4)] []) (hk40 : ∀ (x0 : Nat) (x2 : Nat) (x3 : Int32) (x4 : Int32) (x5 : Int32) (d : CD), k40 x0 x2 x3 x4 x5 d = some (r, τ) → XJ K 8 (Wc K T 0 0 g d) 40 [(0, .ref x0), (2, .ref x2), (3, .int x3), (4, .int x4), (5, .int x5)] []) (hk84 : ∀ (x0 : Nat) (x2 : Nat) (x3 : Int32) (x4 : Int32) (x5 : Int32) (x6 : Int32) (d : CD), k84 x0 x2 x3 x4 x5 x6 d = some (r, τ) → XJ K 8 (Wc K T 0 0 g d) 84 [(0, .ref x0), (2, .ref x2), (3, .int x3), (4, .int x4), (5, .int x5), (6, .int x6)] []) (x0 : Nat) (x2 : Nat) (x3 : Int32) (x4 : Int32) (x5 : Int32) (x6 : Int32) (y0 : Int32) (y1 : Int32) (d : CD) (hf : f_X1_cure_L120 n g k25 k40 k84 x0 x2 x3 x4 x5 x6 y0 y1 d = some (r, τ)) : XJ K 8 (Wc K T 0 0 g d) 120 [(0, .ref x0), (2, .ref x2), (3, .int x3), (4, .int x4), (5, .int x5), (6, .int x6)] [.int y1, .int y0] := by
  unfold f_X1_cure_L120 at hf
  refine x_iadd C dX1_cure_120 ?_
  refine x_iload C dX1_cure_121 4 rfl ?_
  refine x_aload_n C dX1_cure_123 1 rfl ?_
  obtain ⟨t1, hf⟩ := pf_ch hf
  refine cg5_1 C B t1 (fln B q417) fsm dX1_cure_124 ?_
  refine x_icmp_ne (tgt := 134) C dX1_cure_127 (by decide) (fun c2 => ?_) (fun c2 => ?_)
  · have hf := pf_f c2 hf
    refine x_bipush (8 : Int32) C dX1_cure_134 (by decide) ?_
    refine x_iadd C dX1_cure_136 ?_
    obtain ⟨v3, ev3, hf⟩ := pf_e hf
    refine x_topir ev3 ?_
    refine x_istore (L' := [(0, .ref x0), (2, .ref x2), (3, .int x3), (4, .int x4), (5, .int x5), (6, .int x6), (7, .int v3)]) C dX1_cure_137 (Nat.le_of_ble_eq_true rfl) [1, 2, 3, 4, 5, 6, 0] rfl ?_
    refine x_iload_n C dX1_cure_139 2 rfl ?_
    refine x_iconst (-1 : Int32) C dX1_cure_140 (by decide) ?_
    refine x_icmp_eq (tgt := 150) C dX1_cure_141 (by decide) (fun c4 => ?_) (fun c4 => ?_)
    · have hf := pf_t c4 hf
      exact w_X1_cure_150 n g _ _ _ C B hr dK hQ hk25 hk40 hk84 x0 x2 x3 x4 x5 x6 v3 _ hf
    · have hf := pf_f c4 hf
      refine x_iload C dX1_cure_144 6 rfl ?_
      refine x_iload_n C dX1_cure_146 2 rfl ?_
      refine x_icmp_ge (tgt := 201) C dX1_cure_147 (by decide) (fun c5 => ?_) (fun c5 => ?_)
      · have hf := pf_t c5 hf
        refine x_inc (c := (1 : Int32)) (L' := [(0, .ref x0), (2, .ref x2), (3, .int x3), (4, .int x4), (5, .int x5), (6, .int (x6 + (1 : Int32)))]) C dX1_cure_201 5 rfl (by decide) (Nat.le_of_ble_eq_true rfl) [1, 2, 3, 4, 5, 0] rfl ?_
        refine x_goto (tgt := 84) C dX1_cure_204 (by decide) ?_
        exact hk84 x0 x2 x3 x4 x5 (x6 + (1 : Int32)) _ hf
      · have hf := pf_f c5 hf
        exact w_X1_cure_150 n g _ _ _ C B hr dK hQ hk25 hk40 hk84 x0 x2 x3 x4 x5 x6 v3 _ hf
  · have hf := pf_t c2 hf
    refine x_iconst (0 : Int32) C dX1_cure_130 (by decide) ?_
    refine x_goto (tgt := 136) C dX1_cure_131 (by decide) ?_
    refine x_iadd C dX1_cure_136 ?_
    obtain ⟨v6, ev6, hf⟩ := pf_e hf
    refine x_topir ev6 ?_
    refine x_istore (L' := [(0, .ref x0), (2, .ref x2), (3, .int x3), (4, .int x4), (5, .int x5), (6, .int x6), (7, .int v6)]) C dX1_cure_137 (Nat.le_of_ble_eq_true rfl) [1, 2, 3, 4, 5, 6, 0] rfl ?_
    refine x_iload_n C dX1_cure_139 2 rfl ?_
    refine x_iconst (-1 : Int32) C dX1_cure_140 (by decide) ?_
    refine x_icmp_eq (tgt := 150) C dX1_cure_141 (by decide) (fun c7 => ?_) (fun c7 => ?_)
    · have hf := pf_t c7 hf
      exact w_X1_cure_150 n g _ _ _ C B hr dK hQ hk25 hk40 hk84 x0 x2 x3 x4 x5 x6 v6 _ hf
    · have hf := pf_f c7 hf
      refine x_iload C dX1_cure_144 6 rfl ?_
      refine x_iload_n C dX1_cure_146 2 rfl ?_
      refine x_icmp_ge (tgt := 201) C dX1_cure_147 (by decide) (fun c8 => ?_) (fun c8 => ?_)
      · have hf := pf_t c8 hf
        refine x_inc (c := (1 : Int32)) (L' := [(0, .ref x0), (2, .ref x2), (3, .int x3), (4, .int x4), (5, .int x5), (6, .int (x6 + (1 : Int32)))]) C dX1_cure_201 5 rfl (by decide) (Nat.le_of_ble_eq_true rfl) [1, 2, 3, 4, 5, 0] rfl ?_
        refine x_goto (tgt := 84) C dX1_cure_204 (by decide) ?_
        exact hk84 x0 x2 x3 x4 x5 (x6 + (1 : Int32)) _ hf
      · have hf := pf_f c8 hf
        exact w_X1_cure_150 n g _ _ _ C B hr dK hQ hk25 hk40 hk84 x0 x2 x3 x4 x5 x6 v6 _ hf
def f_X1_cure_L98 (n : Nat) (g : CG) (k25 : Nat → Nat → Int32 → Int32 → CD → Option (Int32 × CD)) (k40 : Nat → Nat → Int32 → Int32 → Int32 → CD → Option (Int32 × CD)) (k84 : Nat → Nat → Int32 → Int32 → Int32 → Int32 → CD → Option (Int32 × CD)) (x0 : Nat) (x2 : Nat) (x3 : Int32) (x4 : Int32) (x5 : Int32) (x6 : Int32) (y0 : Int32) (y1 : Int32) (d : CD) : Option (Int32 × CD) := if y1 ≤ y0 then (k40 x0 x2 x3 x4 (x5 + (1 : Int32)) d) else (if ht g x2 = 5 then if x4 = (hi d x2 0) then (f_X1_cure_L120 n g k25 k40 k84 x0 x2 x3 x4 x5 x6 ((5 : Int32) * x6) (0 : Int32) d) else (f_X1_cure_L120 n g k25 k40 k84 x0 x2 x3 x4 x5 x6 ((5 : Int32) * x6) (10 : Int32) d) else none)
set_option maxHeartbeats 4000000 in
theorem w_X1_cure_98 {K : KT} {T : CT} {r : Int32} {τ : CD} (n : Nat) (g : CG) (k25 : Nat → Nat → Int32 → Int32 → CD → Option (Int32 × CD)) (k40 : Nat → Nat → Int32 → Int32 → Int32 → CD → Option (Int32 × CD)) (k84 : Nat → Nat → Int32 → Int32 → Int32 → Int32 → CD → Option (Int32 × CD)) (C : Kok K cX1_cure 8 RX1) (B : CB K T) (hr : (kMe K).sig.returnType = (some .int)) (dK : kR K = rmC 5 0 0) (hQ : KQc K T (some (.int r)) 0 0 g τ)  (hk25 : ∀ (x0 : Nat) (x2 : Nat) (x3 : Int32) (x4 : Int32) (d : CD), k25 x0 x2 x3 x4 d = some (r, τ) → XJ K 8 (Wc K T 0 0 g d) 25 [(0, .ref x0), (2, .ref x2), (3, .int x3), (4, .int x4)] []) (hk40 : ∀ (x0 : Nat) (x2 : Nat) (x3 : Int32) (x4 : Int32) (x5 : Int32) (d : CD), k40 x0 x2 x3 x4 x5 d = some (r, τ) → XJ K 8 (Wc K T 0 0 g d) 40 [(0, .ref x0), (2, .ref x2), (3, .int x3), (4, .int x4), (5, .int x5)] []) (hk84 : ∀ (x0 : Nat) (x2 : Nat) (x3 : Int32) (x4 : Int32) (x5 : Int32) (x6 : Int32) (d : CD), k84 x0 x2 x3 x4 x5 x6 d = some (r, τ) → XJ K 8 (Wc K T 0 0 g d) 84 [(0, .ref x0), (2, .ref x2), (3, .int x3), (4, .int x4), (5, .int x5), (6, .int x6)] []) (x0 : Nat) (x2 : Nat) (x3 : Int32) (x4 : Int32) (x5 : Int32) (x6 : Int32) (y0 : Int32) (y1 : Int32) (d : CD) (hf : f_X1_cure_L98 n g k25 k40 k84 x0 x2 x3 x4 x5 x6 y0 y1 d = some (r, τ)) : XJ K 8 (Wc K T 0 0 g d) 98 [(0, .ref x0), (2, .ref x2), (3, .int x3), (4, .int x4), (5, .int x5), (6, .int x6)] [.int y1, .int y0] := by
  unfold f_X1_cure_L98 at hf
  refine x_icmp_ge (tgt := 207) C dX1_cure_98 (by decide) (fun c1 => ?_) (fun c1 => ?_)
  · have hf := pf_t c1 hf
    refine x_inc (c := (1 : Int32)) (L' := [(0, .ref x0), (2, .ref x2), (3, .int x3), (4, .int x4), (5, .int (x5 + (1 : Int32)))]) C dX1_cure_207 4 rfl (by decide) (Nat.le_of_ble_eq_true rfl) [1, 2, 3, 4, 0] rfl ?_
    refine x_goto (tgt := 40) C dX1_cure_210 (by decide) ?_
    exact hk40 x0 x2 x3 x4 (x5 + (1 : Int32)) _ hf
  · have hf := pf_f c1 hf
    refine x_iconst (5 : Int32) C dX1_cure_101 (by decide) ?_
    refine x_iload C dX1_cure_102 5 rfl ?_
    refine x_imul C dX1_cure_104 ?_
    refine x_iload C dX1_cure_105 3 rfl ?_
    refine x_aload_n C dX1_cure_107 1 rfl ?_
    obtain ⟨t2, hf⟩ := pf_ch hf
    refine cg5_0 C B t2 (fln B q412) fsm dX1_cure_108 ?_
    refine x_icmp_ne (tgt := 118) C dX1_cure_111 (by decide) (fun c3 => ?_) (fun c3 => ?_)
    · have hf := pf_f c3 hf
      refine x_bipush (10 : Int32) C dX1_cure_118 (by decide) ?_
      exact w_X1_cure_120 n g _ _ _ C B hr dK hQ hk25 hk40 hk84 x0 x2 x3 x4 x5 x6 ((5 : Int32) * x6) (10 : Int32) _ hf
    · have hf := pf_t c3 hf
      refine x_iconst (0 : Int32) C dX1_cure_114 (by decide) ?_
      refine x_goto (tgt := 120) C dX1_cure_115 (by decide) ?_
      exact w_X1_cure_120 n g _ _ _ C B hr dK hQ hk25 hk40 hk84 x0 x2 x3 x4 x5 x6 ((5 : Int32) * x6) (0 : Int32) _ hf
def f_X1_cure_L84 (n : Nat) (g : CG) (k25 : Nat → Nat → Int32 → Int32 → CD → Option (Int32 × CD)) (k40 : Nat → Nat → Int32 → Int32 → Int32 → CD → Option (Int32 × CD)) : Nat → Nat → Nat → Int32 → Int32 → Int32 → Int32 → CD → Option (Int32 × CD)
  | 0, _, _, _, _, _, _, _ => none
  | m + 1, x0, x2, x3, x4, x5, x6, d => if ht g x2 = 5 then if (hi d x2 5) = 0 then (f_X1_cure_L98 n g k25 k40 (f_X1_cure_L84 n g k25 k40 m) x0 x2 x3 x4 x5 x6 x6 (1 : Int32) d) else (f_X1_cure_L98 n g k25 k40 (f_X1_cure_L84 n g k25 k40 m) x0 x2 x3 x4 x5 x6 x6 (2 : Int32) d) else none
set_option maxHeartbeats 4000000 in
theorem w_X1_cure_84 {K : KT} {T : CT} {r : Int32} {τ : CD} (n : Nat) (g : CG) (k25 : Nat → Nat → Int32 → Int32 → CD → Option (Int32 × CD)) (k40 : Nat → Nat → Int32 → Int32 → Int32 → CD → Option (Int32 × CD)) (C : Kok K cX1_cure 8 RX1) (B : CB K T) (hr : (kMe K).sig.returnType = (some .int)) (dK : kR K = rmC 5 0 0) (hQ : KQc K T (some (.int r)) 0 0 g τ)  (hk25 : ∀ (x0 : Nat) (x2 : Nat) (x3 : Int32) (x4 : Int32) (d : CD), k25 x0 x2 x3 x4 d = some (r, τ) → XJ K 8 (Wc K T 0 0 g d) 25 [(0, .ref x0), (2, .ref x2), (3, .int x3), (4, .int x4)] []) (hk40 : ∀ (x0 : Nat) (x2 : Nat) (x3 : Int32) (x4 : Int32) (x5 : Int32) (d : CD), k40 x0 x2 x3 x4 x5 d = some (r, τ) → XJ K 8 (Wc K T 0 0 g d) 40 [(0, .ref x0), (2, .ref x2), (3, .int x3), (4, .int x4), (5, .int x5)] []) : ∀ (m : Nat) (x0 : Nat) (x2 : Nat) (x3 : Int32) (x4 : Int32) (x5 : Int32) (x6 : Int32) (d : CD) (hf : f_X1_cure_L84 n g k25 k40 m x0 x2 x3 x4 x5 x6 d = some (r, τ)), XJ K 8 (Wc K T 0 0 g d) 84 [(0, .ref x0), (2, .ref x2), (3, .int x3), (4, .int x4), (5, .int x5), (6, .int x6)] [] := by
  intro m
  induction m with
  | zero => intro x0 x2 x3 x4 x5 x6 d hf; cases hf
  | succ m ih =>
    intro x0 x2 x3 x4 x5 x6 d hf
    rw [f_X1_cure_L84] at hf
    refine x_iload C dX1_cure_84 5 rfl ?_
    refine x_aload_n C dX1_cure_86 1 rfl ?_
    obtain ⟨t1, hf⟩ := pf_ch hf
    refine cg5_5 C B t1 (fln B q433) fsm dX1_cure_87 ?_
    refine x_if_eq (tgt := 97) C dX1_cure_90 (by decide) (fun c2 => ?_) (fun c2 => ?_)
    · have hf := pf_t c2 hf
      refine x_iconst (1 : Int32) C dX1_cure_97 (by decide) ?_
      exact w_X1_cure_98 n g _ _ _ C B hr dK hQ hk25 hk40 ih x0 x2 x3 x4 x5 x6 x6 (1 : Int32) _ hf
    · have hf := pf_f c2 hf
      refine x_iconst (2 : Int32) C dX1_cure_93 (by decide) ?_
      refine x_goto (tgt := 98) C dX1_cure_94 (by decide) ?_
      exact w_X1_cure_98 n g _ _ _ C B hr dK hQ hk25 hk40 ih x0 x2 x3 x4 x5 x6 x6 (2 : Int32) _ hf
def f_X1_cure_L40 (n : Nat) (g : CG) (k25 : Nat → Nat → Int32 → Int32 → CD → Option (Int32 × CD)) : Nat → Nat → Nat → Int32 → Int32 → Int32 → CD → Option (Int32 × CD)
  | 0, _, _, _, _, _, _ => none
  | m + 1, x0, x2, x3, x4, x5, d => if ht g x0 = 1 then (hr g x0 6).bind fun p2 => if ht g p2 = 3 then if (hi d p2 17) ≤ x5 then (k25 x0 x2 x3 (x4 + (1 : Int32)) d) else (if ht g x2 = 5 then if x5 = (hi d x2 1) then (f_X1_cure_L84 n g k25 (f_X1_cure_L40 n g k25 m) n x0 x2 x3 x4 x5 (0 : Int32) d) else ((hr g x0 7).bind fun p7 => if ht g p7 = 4 then (f_X4_at n g d p7 p2 x5).bind fun r9 => if r9 = (-1 : Int32) then (f_X1_cure_L84 n g k25 (f_X1_cure_L40 n g k25 m) n x0 x2 x3 x4 x5 (0 : Int32) d) else (f_X1_cure_L40 n g k25 m x0 x2 x3 x4 (x5 + (1 : Int32)) d) else none) else none) else none else none
set_option maxHeartbeats 4000000 in
theorem w_X1_cure_40 {K : KT} {T : CT} {r : Int32} {τ : CD} (n : Nat) (g : CG) (k25 : Nat → Nat → Int32 → Int32 → CD → Option (Int32 × CD)) (C : Kok K cX1_cure 8 RX1) (B : CB K T) (hr : (kMe K).sig.returnType = (some .int)) (dK : kR K = rmC 5 0 0) (hQ : KQc K T (some (.int r)) 0 0 g τ)  (hk25 : ∀ (x0 : Nat) (x2 : Nat) (x3 : Int32) (x4 : Int32) (d : CD), k25 x0 x2 x3 x4 d = some (r, τ) → XJ K 8 (Wc K T 0 0 g d) 25 [(0, .ref x0), (2, .ref x2), (3, .int x3), (4, .int x4)] []) : ∀ (m : Nat) (x0 : Nat) (x2 : Nat) (x3 : Int32) (x4 : Int32) (x5 : Int32) (d : CD) (hf : f_X1_cure_L40 n g k25 m x0 x2 x3 x4 x5 d = some (r, τ)), XJ K 8 (Wc K T 0 0 g d) 40 [(0, .ref x0), (2, .ref x2), (3, .int x3), (4, .int x4), (5, .int x5)] [] := by
  intro m
  induction m with
  | zero => intro x0 x2 x3 x4 x5 d hf; cases hf
  | succ m ih =>
    intro x0 x2 x3 x4 x5 d hf
    rw [f_X1_cure_L40] at hf
    refine x_iload C dX1_cure_40 4 rfl ?_
    refine x_aload_n C dX1_cure_42 0 rfl ?_
    obtain ⟨t1, hf⟩ := pf_ch hf
    obtain ⟨p2, ep2, hf⟩ := pf_b hf
    refine cg1_6 C B t1 (flo C q621) fsm ep2 dX1_cure_43 ?_
    obtain ⟨t3, hf⟩ := pf_ch hf
    refine cg3_17 C B t3 (fln B q326) fsm dX1_cure_46 ?_
    refine x_icmp_ge (tgt := 213) C dX1_cure_49 (by decide) (fun c4 => ?_) (fun c4 => ?_)
    · have hf := pf_t c4 hf
      refine x_inc (c := (1 : Int32)) (L' := [(0, .ref x0), (2, .ref x2), (3, .int x3), (4, .int (x4 + (1 : Int32)))]) C dX1_cure_213 3 rfl (by decide) (Nat.le_of_ble_eq_true rfl) [1, 2, 3, 0] rfl ?_
      refine x_goto (tgt := 25) C dX1_cure_216 (by decide) ?_
      exact hk25 x0 x2 x3 (x4 + (1 : Int32)) _ hf
    · have hf := pf_f c4 hf
      refine x_iload C dX1_cure_52 4 rfl ?_
      refine x_aload_n C dX1_cure_54 1 rfl ?_
      obtain ⟨t5, hf⟩ := pf_ch hf
      refine cg5_1 C B t5 (fln B q417) fsm dX1_cure_55 ?_
      refine x_icmp_eq (tgt := 81) C dX1_cure_58 (by decide) (fun c6 => ?_) (fun c6 => ?_)
      · have hf := pf_t c6 hf
        refine x_iconst (0 : Int32) C dX1_cure_81 (by decide) ?_
        refine x_istore (L' := [(0, .ref x0), (2, .ref x2), (3, .int x3), (4, .int x4), (5, .int x5), (6, .int (0 : Int32))]) C dX1_cure_82 (Nat.le_of_ble_eq_true rfl) [1, 2, 3, 4, 5, 0] rfl ?_
        exact w_X1_cure_84 n g _ _ C B hr dK hQ hk25 ih n x0 x2 x3 x4 x5 (0 : Int32) _ hf
      · have hf := pf_f c6 hf
        refine x_aload_n C dX1_cure_61 0 rfl ?_
        obtain ⟨p7, ep7, hf⟩ := pf_b hf
        refine cg1_7 C B t1 (flo C q624) fsm ep7 dX1_cure_62 ?_
        refine x_aload_n C dX1_cure_65 0 rfl ?_
        refine cg1_6 C B t1 (flo C q621) fsm ep2 dX1_cure_66 ?_
        refine x_iload C dX1_cure_69 4 rfl ?_
        obtain ⟨t8, hf⟩ := pf_ch hf
        obtain ⟨r9, er9, hf⟩ := pf_b hf
        refine k_X4_at_X1 C B t8 dK (Nat.le_of_ble_eq_true rfl) cz er9 (Nat.le_of_ble_eq_true rfl) dX1_cure_71 ?_
        refine x_iconst (-1 : Int32) C dX1_cure_74 (by decide) ?_
        refine x_icmp_eq (tgt := 81) C dX1_cure_75 (by decide) (fun c10 => ?_) (fun c10 => ?_)
        · have hf := pf_t c10 hf
          refine x_iconst (0 : Int32) C dX1_cure_81 (by decide) ?_
          refine x_istore (L' := [(0, .ref x0), (2, .ref x2), (3, .int x3), (4, .int x4), (5, .int x5), (6, .int (0 : Int32))]) C dX1_cure_82 (Nat.le_of_ble_eq_true rfl) [1, 2, 3, 4, 5, 0] rfl ?_
          exact w_X1_cure_84 n g _ _ C B hr dK hQ hk25 ih n x0 x2 x3 x4 x5 (0 : Int32) _ hf
        · have hf := pf_f c10 hf
          refine x_goto (tgt := 207) C dX1_cure_78 (by decide) ?_
          refine x_inc (c := (1 : Int32)) (L' := [(0, .ref x0), (2, .ref x2), (3, .int x3), (4, .int x4), (5, .int (x5 + (1 : Int32)))]) C dX1_cure_207 4 rfl (by decide) (Nat.le_of_ble_eq_true rfl) [1, 2, 3, 4, 0] rfl ?_
          refine x_goto (tgt := 40) C dX1_cure_210 (by decide) ?_
          exact ih x0 x2 x3 x4 (x5 + (1 : Int32)) _ hf
def f_X1_cure_L25 (n : Nat) (g : CG) : Nat → Nat → Nat → Int32 → Int32 → CD → Option (Int32 × CD)
  | 0, _, _, _, _, _ => none
  | m + 1, x0, x2, x3, x4, d => if ht g x0 = 1 then (hr g x0 6).bind fun p2 => if ht g p2 = 3 then if (hi d p2 19) ≤ x4 then (if x3 = (-1 : Int32) then (some ((-1 : Int32), d)) else (ev (wi d x0 25 (1 : Int32)) fun s6 => (hr g x0 26).bind fun p7 => (hr g x0 24).bind fun p8 => if ht g p7 = 100 then if ht g p8 = 100 then if cpok (0 : Int32) (0 : Int32) (3 : Int32) (hn g p7) (hn g p8) = true then ev (wa s6 p8 (va_cpy (hi s6 p7) (hi s6 p8) (Int32.toNatClampNeg (0 : Int32)) (Int32.toNatClampNeg (0 : Int32)) (Int32.toNatClampNeg (3 : Int32)))) fun s12 => some (x3, s12) else none else none else none)) else (f_X1_cure_L40 n g (f_X1_cure_L25 n g m) n x0 x2 x3 x4 (0 : Int32) d) else none else none
set_option maxHeartbeats 4000000 in
theorem w_X1_cure_25 {K : KT} {T : CT} {r : Int32} {τ : CD} (n : Nat) (g : CG) (C : Kok K cX1_cure 8 RX1) (B : CB K T) (hr : (kMe K).sig.returnType = (some .int)) (dK : kR K = rmC 5 0 0) (hQ : KQc K T (some (.int r)) 0 0 g τ) : ∀ (m : Nat) (x0 : Nat) (x2 : Nat) (x3 : Int32) (x4 : Int32) (d : CD) (hf : f_X1_cure_L25 n g m x0 x2 x3 x4 d = some (r, τ)), XJ K 8 (Wc K T 0 0 g d) 25 [(0, .ref x0), (2, .ref x2), (3, .int x3), (4, .int x4)] [] := by
  intro m
  induction m with
  | zero => intro x0 x2 x3 x4 d hf; cases hf
  | succ m ih =>
    intro x0 x2 x3 x4 d hf
    rw [f_X1_cure_L25] at hf
    refine x_iload C dX1_cure_25 3 rfl ?_
    refine x_aload_n C dX1_cure_27 0 rfl ?_
    obtain ⟨t1, hf⟩ := pf_ch hf
    obtain ⟨p2, ep2, hf⟩ := pf_b hf
    refine cg1_6 C B t1 (flo C q621) fsm ep2 dX1_cure_28 ?_
    obtain ⟨t3, hf⟩ := pf_ch hf
    refine cg3_19 C B t3 (fln B q333) fsm dX1_cure_31 ?_
    refine x_icmp_ge (tgt := 219) C dX1_cure_34 (by decide) (fun c4 => ?_) (fun c4 => ?_)
    · have hf := pf_t c4 hf
      refine x_iload_n C dX1_cure_219 2 rfl ?_
      refine x_iconst (-1 : Int32) C dX1_cure_220 (by decide) ?_
      refine x_icmp_ne (tgt := 226) C dX1_cure_221 (by decide) (fun c5 => ?_) (fun c5 => ?_)
      · have hf := pf_f c5 hf
        refine x_aload_n C dX1_cure_226 0 rfl ?_
        refine x_iconst (1 : Int32) C dX1_cure_227 (by decide) ?_
        refine cp1_25 C B t1 (flo C q644) fsm (Or.inr rfl) dX1_cure_228 ?_
        obtain ⟨s6, es6, hf⟩ := pf_e hf
        refine c_ren es6 ?_
        refine x_aload_n C dX1_cure_231 0 rfl ?_
        obtain ⟨p7, ep7, hf⟩ := pf_b hf
        refine cg1_26 C B t1 (flo C q645) fsm ep7 dX1_cure_232 ?_
        refine x_iconst (0 : Int32) C dX1_cure_235 (by decide) ?_
        refine x_aload_n C dX1_cure_236 0 rfl ?_
        obtain ⟨p8, ep8, hf⟩ := pf_b hf
        refine cg1_24 C B t1 (flo C q643) fsm ep8 dX1_cure_237 ?_
        refine x_iconst (0 : Int32) C dX1_cure_240 (by decide) ?_
        refine x_iconst (3 : Int32) C dX1_cure_241 (by decide) ?_
        obtain ⟨t9, hf⟩ := pf_ch hf
        obtain ⟨t10, hf⟩ := pf_ch hf
        obtain ⟨h11, hf⟩ := pf_ch hf
        refine c_copyi C B q1055 q1037 q1036 q140 t9 t10 h11 dK (Nat.le_of_ble_eq_true rfl) (Nat.le_of_ble_eq_true rfl) dX1_cure_242 ?_
        obtain ⟨s12, es12, hf⟩ := pf_e hf
        refine c_ren es12 ?_
        refine x_iload_n C dX1_cure_245 2 rfl ?_
        obtain ⟨rfl, rfl⟩ := Prod.mk.inj (Option.some.inj hf)
        exact c_iret C hr hQ dX1_cure_246
      · have hf := pf_t c5 hf
        refine x_iconst (-1 : Int32) C dX1_cure_224 (by decide) ?_
        obtain ⟨rfl, rfl⟩ := Prod.mk.inj (Option.some.inj hf)
        exact c_iret C hr hQ dX1_cure_225
    · have hf := pf_f c4 hf
      refine x_iconst (0 : Int32) C dX1_cure_37 (by decide) ?_
      refine x_istore (L' := [(0, .ref x0), (2, .ref x2), (3, .int x3), (4, .int x4), (5, .int (0 : Int32))]) C dX1_cure_38 (Nat.le_of_ble_eq_true rfl) [1, 2, 3, 4, 0] rfl ?_
      exact w_X1_cure_40 n g _ C B hr dK hQ ih n x0 x2 x3 x4 (0 : Int32) _ hf
def f_X1_cure (n : Nat) (g : CG) (x0 : Nat) (x1 : Int32) (d : CD) : Option (Int32 × CD) := if ht g x0 = 1 then (f_X1_isHere g d x0 x1).bind fun r2 => if r2 = 0 then (some ((-1 : Int32), d)) else ((hr g x0 7).bind fun p4 => if ht g p4 = 4 then (hr g p4 0).bind fun p6 => if ht g p6 = 105 then if inb x1 (hn g p6) = true then (hr g p6 (Int32.toNatClampNeg x1)).bind fun p9 => f_X1_cure_L25 n g n x0 p9 (-1 : Int32) (0 : Int32) d else none else none else none) else none
set_option maxHeartbeats 4000000 in
theorem w_X1_cure_E {K : KT} {T : CT} {r : Int32} {τ : CD} (n : Nat) (g : CG) (C : Kok K cX1_cure 8 RX1) (B : CB K T) (hr : (kMe K).sig.returnType = (some .int)) (dK : kR K = rmC 5 0 0) (hQ : KQc K T (some (.int r)) 0 0 g τ) (x0 : Nat) (x1 : Int32) (d : CD) (hf : f_X1_cure n g x0 x1 d = some (r, τ)) : XJ K 8 (Wc K T 0 0 g d) 0 [(0, .ref x0), (1, .int x1)] [] := by
  unfold f_X1_cure at hf
  refine x_aload_n C dX1_cure_0 0 rfl ?_
  refine x_iload_n C dX1_cure_1 1 rfl ?_
  obtain ⟨t1, hf⟩ := pf_ch hf
  obtain ⟨r2, er2, hf⟩ := pf_b hf
  refine k_X1_isHere_X1 C B t1 dK (Nat.le_of_ble_eq_true rfl) cz er2 (Nat.le_of_ble_eq_true rfl) dX1_cure_2 ?_
  refine x_if_ne (tgt := 10) C dX1_cure_5 (by decide) (fun c3 => ?_) (fun c3 => ?_)
  · have hf := pf_f c3 hf
    refine x_aload_n C dX1_cure_10 0 rfl ?_
    obtain ⟨p4, ep4, hf⟩ := pf_b hf
    refine cg1_7 C B t1 (flo C q624) fsm ep4 dX1_cure_11 ?_
    obtain ⟨t5, hf⟩ := pf_ch hf
    obtain ⟨p6, ep6, hf⟩ := pf_b hf
    refine cg4_0 C B t5 (fln B q451) fsm ep6 dX1_cure_14 ?_
    refine x_iload_n C dX1_cure_17 1 rfl ?_
    obtain ⟨t7, hf⟩ := pf_ch hf
    obtain ⟨h8, hf⟩ := pf_in hf
    obtain ⟨p9, ep9, hf⟩ := pf_b hf
    refine ca_ald5 C B t7 h8 ep9 dX1_cure_18 ?_
    refine x_astore_n (L' := [(0, .ref x0), (2, .ref p9)]) C dX1_cure_19 (Nat.le_of_ble_eq_true rfl) [1, 0] rfl ?_
    refine x_iconst (-1 : Int32) C dX1_cure_20 (by decide) ?_
    refine x_istore_n (L' := [(0, .ref x0), (2, .ref p9), (3, .int (-1 : Int32))]) C dX1_cure_21 (Nat.le_of_ble_eq_true rfl) [1, 2, 0] rfl ?_
    refine x_iconst (0 : Int32) C dX1_cure_22 (by decide) ?_
    refine x_istore (L' := [(0, .ref x0), (2, .ref p9), (3, .int (-1 : Int32)), (4, .int (0 : Int32))]) C dX1_cure_23 (Nat.le_of_ble_eq_true rfl) [1, 2, 3, 0] rfl ?_
    exact w_X1_cure_25 n g C B hr dK hQ n x0 p9 (-1 : Int32) (0 : Int32) _ hf
  · have hf := pf_t c3 hf
    refine x_iconst (-1 : Int32) C dX1_cure_8 (by decide) ?_
    obtain ⟨rfl, rfl⟩ := Prod.mk.inj (Option.some.inj hf)
    exact c_iret C hr hQ dX1_cure_9
theorem met_X1_cure {T : CT} {v : (Int32 × CD)} {n : Nat} {g : CG} {d : CD} {x0 : Nat} {x1 : Int32} {l : Launch} (hf : f_X1_cure n g x0 x1 d = some v) : Met l yX1_cure (ws_ yX1_cure cX1_cure 8 (some .int)) (rmC 5 0 0) (va_Pc [.ref x0, .int x1] (CU T g d)) (Qc T (some (.int v.1)) g v.2) 0 0 (cA T) :=
  c_met [.ref x0, .int x1] RX1 (by decide) rfl (Nat.le_of_ble_eq_true rfl) (fun K hl hR hr C B hQ => w_X1_cure_E _ _ C B hr hR hQ _ _ _ hf)
def f_X1_cured (g : CG) (d : CD) (x0 : Nat) (x1 : Int32) : Option Int32 := if ht g x0 = 1 then if (hi d x0 25) = 0 then (some (-1 : Int32)) else (if (f_X1_isIn x1 (0 : Int32) (2 : Int32)) = 0 then (some (-1 : Int32)) else ((hr g x0 24).bind fun p4 => if ht g p4 = 100 then if inb x1 (hn g p4) = true then some (hi d p4 (Int32.toNatClampNeg x1)) else none else none)) else none
set_option maxHeartbeats 4000000 in
theorem w_X1_cured_E {K : KT} {T : CT} {r : Int32} (g : CG) (d : CD) (C : Kok K cX1_cured 2 RX1) (B : CB K T) (hr : (kMe K).sig.returnType = (some .int)) (dK : kR K = rmC 3 0 0) (hQ : KQc K T (some (.int r)) 0 0 g d) (x0 : Nat) (x1 : Int32) (hf : f_X1_cured g d x0 x1 = some r) : XJ K 2 (Wc K T 0 0 g d) 0 [(0, .ref x0), (1, .int x1)] [] := by
  unfold f_X1_cured at hf
  refine x_aload_n C dX1_cured_0 0 rfl ?_
  obtain ⟨t1, hf⟩ := pf_ch hf
  refine cg1_25 C B t1 (flo C q644) fsm dX1_cured_1 ?_
  refine x_if_eq (tgt := 25) C dX1_cured_4 (by decide) (fun c2 => ?_) (fun c2 => ?_)
  · have hf := pf_t c2 hf
    refine x_iconst (-1 : Int32) C dX1_cured_25 (by decide) ?_
    obtain rfl := Option.some.inj hf
    exact c_iret C hr hQ dX1_cured_26
  · have hf := pf_f c2 hf
    refine x_iload_n C dX1_cured_7 1 rfl ?_
    refine x_iconst (0 : Int32) C dX1_cured_8 (by decide) ?_
    refine x_iconst (2 : Int32) C dX1_cured_9 (by decide) ?_
    refine k_X1_isIn_X1 C B dK (Nat.le_of_ble_eq_true rfl) cz rfl (Nat.le_of_ble_eq_true rfl) dX1_cured_10 ?_
    refine x_if_eq (tgt := 25) C dX1_cured_13 (by decide) (fun c3 => ?_) (fun c3 => ?_)
    · have hf := pf_t c3 hf
      refine x_iconst (-1 : Int32) C dX1_cured_25 (by decide) ?_
      obtain rfl := Option.some.inj hf
      exact c_iret C hr hQ dX1_cured_26
    · have hf := pf_f c3 hf
      refine x_aload_n C dX1_cured_16 0 rfl ?_
      obtain ⟨p4, ep4, hf⟩ := pf_b hf
      refine cg1_24 C B t1 (flo C q643) fsm ep4 dX1_cured_17 ?_
      refine x_iload_n C dX1_cured_20 1 rfl ?_
      obtain ⟨t5, hf⟩ := pf_ch hf
      obtain ⟨h6, hf⟩ := pf_in hf
      refine ca_ild C B t5 h6 dX1_cured_21 ?_
      refine x_goto (tgt := 26) C dX1_cured_22 (by decide) ?_
      obtain rfl := Option.some.inj hf
      exact c_iret C hr hQ dX1_cured_26
theorem met_X1_cured {T : CT} {v : Int32} {g : CG} {d : CD} {x0 : Nat} {x1 : Int32} {l : Launch} (hf : f_X1_cured g d x0 x1 = some v) : Met l yX1_cured (ws_ yX1_cured cX1_cured 2 (some .int)) (rmC 3 0 0) (va_Pc [.ref x0, .int x1] (CU T g d)) (Qc T (some (.int v)) g d) 0 0 (cA T) :=
  c_met [.ref x0, .int x1] RX1 (by decide) rfl (Nat.le_of_ble_eq_true rfl) (fun K hl hR hr C B hQ => w_X1_cured_E _ _ C B hr hR hQ _ _ hf)
def f_X1_end (g : CG) (x0 : Nat) (x1 : Int32) (d : CD) : Option (Int32 × CD) := if x1 < 0 then (some ((0 : Int32), d)) else (if ht g x0 = 1 then if x1 ≤ (hi d x0 1) then (ev (wi d x0 1 x1) fun s4 => some ((1 : Int32), s4)) else (some ((0 : Int32), d)) else none)
set_option maxHeartbeats 4000000 in
theorem w_X1_end_E {K : KT} {T : CT} {r : Int32} {τ : CD} (g : CG) (C : Kok K cX1_end 2 RX1) (B : CB K T) (hr : (kMe K).sig.returnType = (some .boolean)) (dK : kR K = rmC 2 0 0) (hQ : KQc K T (some (.int r)) 0 0 g τ) (x0 : Nat) (x1 : Int32) (d : CD) (hf : f_X1_end g x0 x1 d = some (r, τ)) : XJ K 2 (Wc K T 0 0 g d) 0 [(0, .ref x0), (1, .int x1)] [] := by
  unfold f_X1_end at hf
  refine x_iload_n C dX1_end_0 1 rfl ?_
  refine x_if_lt (tgt := 12) C dX1_end_1 (by decide) (fun c1 => ?_) (fun c1 => ?_)
  · have hf := pf_t c1 hf
    refine x_iconst (0 : Int32) C dX1_end_12 (by decide) ?_
    obtain ⟨rfl, rfl⟩ := Prod.mk.inj (Option.some.inj hf)
    exact c_zret C hr (Or.inl rfl) hQ dX1_end_13
  · have hf := pf_f c1 hf
    refine x_iload_n C dX1_end_4 1 rfl ?_
    refine x_aload_n C dX1_end_5 0 rfl ?_
    obtain ⟨t2, hf⟩ := pf_ch hf
    refine cg1_1 C B t2 (flo C q611) fsm dX1_end_6 ?_
    refine x_icmp_le (tgt := 14) C dX1_end_9 (by decide) (fun c3 => ?_) (fun c3 => ?_)
    · have hf := pf_t c3 hf
      refine x_aload_n C dX1_end_14 0 rfl ?_
      refine x_iload_n C dX1_end_15 1 rfl ?_
      refine cp1_1 C B t2 (flo C q611) fsm dX1_end_16 ?_
      obtain ⟨s4, es4, hf⟩ := pf_e hf
      refine c_ren es4 ?_
      refine x_iconst (1 : Int32) C dX1_end_19 (by decide) ?_
      obtain ⟨rfl, rfl⟩ := Prod.mk.inj (Option.some.inj hf)
      exact c_zret C hr (Or.inr rfl) hQ dX1_end_20
    · have hf := pf_f c3 hf
      refine x_iconst (0 : Int32) C dX1_end_12 (by decide) ?_
      obtain ⟨rfl, rfl⟩ := Prod.mk.inj (Option.some.inj hf)
      exact c_zret C hr (Or.inl rfl) hQ dX1_end_13
theorem bz_X1_end_E {r : Int32} {τ : CD} {g : CG} {x0 : Nat} {x1 : Int32} {d : CD} (hf : f_X1_end g x0 x1 d = some (r, τ)) : r = 0 ∨ r = 1 := by
  unfold f_X1_end at hf
  by_cases c1 : x1 < 0
  · have hf := pf_t c1 hf
    obtain ⟨rfl, rfl⟩ := Prod.mk.inj (Option.some.inj hf)
    exact (Or.inl rfl)
  · have hf := pf_f c1 hf
    obtain ⟨t2, hf⟩ := pf_ch hf
    by_cases c3 : x1 ≤ (hi d x0 1)
    · have hf := pf_t c3 hf
      obtain ⟨s4, es4, hf⟩ := pf_e hf
      obtain ⟨rfl, rfl⟩ := Prod.mk.inj (Option.some.inj hf)
      exact (Or.inr rfl)
    · have hf := pf_f c3 hf
      obtain ⟨rfl, rfl⟩ := Prod.mk.inj (Option.some.inj hf)
      exact (Or.inl rfl)
theorem met_X1_end {T : CT} {v : (Int32 × CD)} {g : CG} {d : CD} {x0 : Nat} {x1 : Int32} {l : Launch} (hf : f_X1_end g x0 x1 d = some v) : Met l yX1_end (ws_ yX1_end cX1_end 2 (some .boolean)) (rmC 2 0 0) (va_Pc [.ref x0, .int x1] (CU T g d)) (Qc T (some (.int v.1)) g v.2) 0 0 (cA T) :=
  c_met [.ref x0, .int x1] RX1 (by decide) rfl (Nat.le_of_ble_eq_true rfl) (fun K hl hR hr C B hQ => w_X1_end_E _ C B hr hR hQ _ _ _ hf)
def f_X1_fault (g : CG) (d : CD) (x0 : Nat) : Option Int32 := if ht g x0 = 1 then some (hi d x0 11) else none
set_option maxHeartbeats 4000000 in
theorem w_X1_fault_E {K : KT} {T : CT} {r : Int32} (g : CG) (d : CD) (C : Kok K cX1_fault 1 RX1) (B : CB K T) (hr : (kMe K).sig.returnType = (some .int)) (dK : kR K = rmC 2 0 0) (hQ : KQc K T (some (.int r)) 0 0 g d) (x0 : Nat) (hf : f_X1_fault g d x0 = some r) : XJ K 1 (Wc K T 0 0 g d) 0 [(0, .ref x0)] [] := by
  unfold f_X1_fault at hf
  refine x_aload_n C dX1_fault_0 0 rfl ?_
  obtain ⟨t1, hf⟩ := pf_ch hf
  refine cg1_11 C B t1 (flo C q630) fsm dX1_fault_1 ?_
  obtain rfl := Option.some.inj hf
  exact c_iret C hr hQ dX1_fault_4
theorem met_X1_fault {T : CT} {v : Int32} {g : CG} {d : CD} {x0 : Nat} {l : Launch} (hf : f_X1_fault g d x0 = some v) : Met l yX1_fault (ws_ yX1_fault cX1_fault 1 (some .int)) (rmC 2 0 0) (va_Pc [.ref x0] (CU T g d)) (Qc T (some (.int v)) g d) 0 0 (cA T) :=
  c_met [.ref x0] RX1 (by decide) rfl (Nat.le_of_ble_eq_true rfl) (fun K hl hR hr C B hQ => w_X1_fault_E _ _ C B hr hR hQ _ hf)
def f_X1_four_L3 (n : Nat) (g : CG) : Nat → Nat → Int32 → Int32 → CD → Option CD
  | 0, _, _, _, _ => none
  | m + 1, x0, x1, x2, d => if x2 < 0 then (some d) else (if ht g x0 = 1 then (hr g x0 0).bind fun p3 => if ht g p3 = 103 then if inb (hi d x0 1) (hn g p3) = true then ev (wi d p3 (Int32.toNatClampNeg (hi d x0 1)) (vp_nar .byte (Int8.toInt32 (Int32.toInt8 (x1 >>> (x2 &&& 31)))))) fun s6 => ev (wi s6 x0 1 ((hi s6 x0 1) + (1 : Int32))) fun s7 => f_X1_four_L3 n g m x0 x1 (x2 + (-8 : Int32)) s7 else none else none else none)
set_option maxHeartbeats 4000000 in
theorem w_X1_four_3 {K : KT} {T : CT} {τ : CD} (n : Nat) (g : CG) (C : Kok K cX1_four 3 RX1) (B : CB K T) (hr : (kMe K).sig.returnType = none) (dK : kR K = rmC 2 0 0) (hQ : KQc K T none 0 0 g τ) : ∀ (m : Nat) (x0 : Nat) (x1 : Int32) (x2 : Int32) (d : CD) (hf : f_X1_four_L3 n g m x0 x1 x2 d = some τ), XJ K 3 (Wc K T 0 0 g d) 3 [(0, .ref x0), (1, .int x1), (2, .int x2)] [] := by
  intro m
  induction m with
  | zero => intro x0 x1 x2 d hf; cases hf
  | succ m ih =>
    intro x0 x1 x2 d hf
    rw [f_X1_four_L3] at hf
    refine x_iload_n C dX1_four_3 2 rfl ?_
    refine x_if_lt (tgt := 36) C dX1_four_4 (by decide) (fun c1 => ?_) (fun c1 => ?_)
    · have hf := pf_t c1 hf
      obtain rfl := Option.some.inj hf
      exact c_vret C hr hQ dX1_four_36
    · have hf := pf_f c1 hf
      refine x_aload_n C dX1_four_7 0 rfl ?_
      obtain ⟨t2, hf⟩ := pf_ch hf
      obtain ⟨p3, ep3, hf⟩ := pf_b hf
      refine cg1_0 C B t2 (flo C q609) fsm ep3 dX1_four_8 ?_
      refine x_aload_n C dX1_four_11 0 rfl ?_
      refine cg1_1 C B t2 (flo C q611) fsm dX1_four_12 ?_
      refine x_iload_n C dX1_four_15 1 rfl ?_
      refine x_iload_n C dX1_four_16 2 rfl ?_
      refine x_ishr C dX1_four_17 ?_
      refine x_i2b C dX1_four_18 ?_
      obtain ⟨t4, hf⟩ := pf_ch hf
      obtain ⟨h5, hf⟩ := pf_in hf
      refine ca_bst C B t4 h5 dX1_four_19 ?_
      obtain ⟨s6, es6, hf⟩ := pf_e hf
      refine c_ren es6 ?_
      refine x_aload_n C dX1_four_20 0 rfl ?_
      refine x_dup C dX1_four_21 rfl ?_
      refine cg1_1 C B t2 (flo C q611) fsm dX1_four_22 ?_
      refine x_iconst (1 : Int32) C dX1_four_25 (by decide) ?_
      refine x_iadd C dX1_four_26 ?_
      refine cp1_1 C B t2 (flo C q611) fsm dX1_four_27 ?_
      obtain ⟨s7, es7, hf⟩ := pf_e hf
      refine c_ren es7 ?_
      refine x_inc (c := (-8 : Int32)) (L' := [(0, .ref x0), (1, .int x1), (2, .int (x2 + (-8 : Int32)))]) C dX1_four_30 2 rfl (by decide) (Nat.le_of_ble_eq_true rfl) [1, 2, 0] rfl ?_
      refine x_goto (tgt := 3) C dX1_four_33 (by decide) ?_
      exact ih x0 x1 (x2 + (-8 : Int32)) _ hf
def f_X1_four (n : Nat) (g : CG) (x0 : Nat) (x1 : Int32) (d : CD) : Option CD := f_X1_four_L3 n g n x0 x1 (24 : Int32) d
set_option maxHeartbeats 4000000 in
theorem w_X1_four_E {K : KT} {T : CT} {τ : CD} (n : Nat) (g : CG) (C : Kok K cX1_four 3 RX1) (B : CB K T) (hr : (kMe K).sig.returnType = none) (dK : kR K = rmC 2 0 0) (hQ : KQc K T none 0 0 g τ) (x0 : Nat) (x1 : Int32) (d : CD) (hf : f_X1_four n g x0 x1 d = some τ) : XJ K 3 (Wc K T 0 0 g d) 0 [(0, .ref x0), (1, .int x1)] [] := by
  unfold f_X1_four at hf
  refine x_bipush (24 : Int32) C dX1_four_0 (by decide) ?_
  refine x_istore_n (L' := [(0, .ref x0), (1, .int x1), (2, .int (24 : Int32))]) C dX1_four_2 (Nat.le_of_ble_eq_true rfl) [1, 2, 0] rfl ?_
  exact w_X1_four_3 n g C B hr dK hQ n x0 x1 (24 : Int32) _ hf
theorem met_X1_four {T : CT} {v : CD} {n : Nat} {g : CG} {d : CD} {x0 : Nat} {x1 : Int32} {l : Launch} (hf : f_X1_four n g x0 x1 d = some v) : Met l yX1_four (ws_ yX1_four cX1_four 3 none) (rmC 2 0 0) (va_Pc [.ref x0, .int x1] (CU T g d)) (Qc T none g v) 0 0 (cA T) :=
  c_met [.ref x0, .int x1] RX1 (by decide) rfl (Nat.le_of_ble_eq_true rfl) (fun K hl hR hr C B hQ => w_X1_four_E _ _ C B hr hR hQ _ _ _ hf)
theorem k_X1_four_X1 {K : KT} {T : CT} {c0 s0 c1 s1 dk : Nat} {cc : ByteArray} {nL pc : Nat} {L : List (Nat × Value)} {rest : List Value} {g : CG} {d : CD} {v : CD} {n : Nat} {x0 : Nat} {x1 : Int32} (C : Kok K cc nL RX1) (B : CB K T) (hta : ht g x0 = 1) (dK : kR K = rmC dk c1 s1) (hd : 2 + 1 ≤ dk) (hcs : c0 + 0 ≤ c1 ∧ s0 + 0 ≤ s1) (hf : f_X1_four n g x0 x1 d = some v) (hW : (rest.map fun v => v.category).sum ≤ 8) (dd : decode cc pc = .ok (.invokevirtual 174, 3)) (kk2 : XJ K nL (Wc K T c0 s0 g v) (pc + 3) L (rest)) : XJ K nL (Wc K T c0 s0 g d) pc L (.int x1 :: .ref x0 :: rest) :=
  c_callV (rest := rest) (v := none) [.int x1] 1 rfl C B hta (by decide) (by decide) rfl dK hd (Nat.le_of_ble_eq_true rfl) hcs (lw_V q747 q749 qs1 q121 q750) (by decide +kernel) (met_X1_four hf) rfl hW dd kk2
def f_X1_feed (n : Nat) (g : CG) (x0 : Nat) (x1 : Int32) (x2 : Int32) (x3 : Int32) (x4 : Int32) (x5 : Int32) (d : CD) : Option (Int32 × CD) := if ht g x0 = 1 then if ((hi d x0 1) + (20 : Int32)) ≤ (940 : Int32) then ((f_X1_four n g x0 x1 d).bind fun r3 => (f_X1_four n g x0 x2 r3).bind fun r4 => (f_X1_four n g x0 x3 r4).bind fun r5 => (f_X1_four n g x0 x4 r5).bind fun r6 => (f_X1_four n g x0 x5 r6).bind fun r7 => some (hi r7 x0 1, r7)) else (some ((-1 : Int32), d)) else none
set_option maxHeartbeats 4000000 in
theorem w_X1_feed_E {K : KT} {T : CT} {r : Int32} {τ : CD} (n : Nat) (g : CG) (C : Kok K cX1_feed 6 RX1) (B : CB K T) (hr : (kMe K).sig.returnType = (some .int)) (dK : kR K = rmC 3 0 0) (hQ : KQc K T (some (.int r)) 0 0 g τ) (x0 : Nat) (x1 : Int32) (x2 : Int32) (x3 : Int32) (x4 : Int32) (x5 : Int32) (d : CD) (hf : f_X1_feed n g x0 x1 x2 x3 x4 x5 d = some (r, τ)) : XJ K 6 (Wc K T 0 0 g d) 0 [(0, .ref x0), (1, .int x1), (2, .int x2), (3, .int x3), (4, .int x4), (5, .int x5)] [] := by
  unfold f_X1_feed at hf
  refine x_aload_n C dX1_feed_0 0 rfl ?_
  obtain ⟨t1, hf⟩ := pf_ch hf
  refine cg1_1 C B t1 (flo C q611) fsm dX1_feed_1 ?_
  refine x_bipush (20 : Int32) C dX1_feed_4 (by decide) ?_
  refine x_iadd C dX1_feed_6 ?_
  refine x_sipush (940 : Int32) C dX1_feed_7 (by decide) ?_
  refine x_icmp_le (tgt := 15) C dX1_feed_10 (by decide) (fun c2 => ?_) (fun c2 => ?_)
  · have hf := pf_t c2 hf
    refine x_aload_n C dX1_feed_15 0 rfl ?_
    refine x_iload_n C dX1_feed_16 1 rfl ?_
    obtain ⟨r3, er3, hf⟩ := pf_b hf
    refine k_X1_four_X1 C B t1 dK (Nat.le_of_ble_eq_true rfl) cz er3 (Nat.le_of_ble_eq_true rfl) dX1_feed_17 ?_
    refine x_aload_n C dX1_feed_20 0 rfl ?_
    refine x_iload_n C dX1_feed_21 2 rfl ?_
    obtain ⟨r4, er4, hf⟩ := pf_b hf
    refine k_X1_four_X1 C B t1 dK (Nat.le_of_ble_eq_true rfl) cz er4 (Nat.le_of_ble_eq_true rfl) dX1_feed_22 ?_
    refine x_aload_n C dX1_feed_25 0 rfl ?_
    refine x_iload_n C dX1_feed_26 3 rfl ?_
    obtain ⟨r5, er5, hf⟩ := pf_b hf
    refine k_X1_four_X1 C B t1 dK (Nat.le_of_ble_eq_true rfl) cz er5 (Nat.le_of_ble_eq_true rfl) dX1_feed_27 ?_
    refine x_aload_n C dX1_feed_30 0 rfl ?_
    refine x_iload C dX1_feed_31 4 rfl ?_
    obtain ⟨r6, er6, hf⟩ := pf_b hf
    refine k_X1_four_X1 C B t1 dK (Nat.le_of_ble_eq_true rfl) cz er6 (Nat.le_of_ble_eq_true rfl) dX1_feed_33 ?_
    refine x_aload_n C dX1_feed_36 0 rfl ?_
    refine x_iload C dX1_feed_37 5 rfl ?_
    obtain ⟨r7, er7, hf⟩ := pf_b hf
    refine k_X1_four_X1 C B t1 dK (Nat.le_of_ble_eq_true rfl) cz er7 (Nat.le_of_ble_eq_true rfl) dX1_feed_39 ?_
    refine x_aload_n C dX1_feed_42 0 rfl ?_
    refine cg1_1 C B t1 (flo C q611) fsm dX1_feed_43 ?_
    obtain ⟨rfl, rfl⟩ := Prod.mk.inj (Option.some.inj hf)
    exact c_iret C hr hQ dX1_feed_46
  · have hf := pf_f c2 hf
    refine x_iconst (-1 : Int32) C dX1_feed_13 (by decide) ?_
    obtain ⟨rfl, rfl⟩ := Prod.mk.inj (Option.some.inj hf)
    exact c_iret C hr hQ dX1_feed_14
theorem met_X1_feed {T : CT} {v : (Int32 × CD)} {n : Nat} {g : CG} {d : CD} {x0 : Nat} {x1 : Int32} {x2 : Int32} {x3 : Int32} {x4 : Int32} {x5 : Int32} {l : Launch} (hf : f_X1_feed n g x0 x1 x2 x3 x4 x5 d = some v) : Met l yX1_feed (ws_ yX1_feed cX1_feed 6 (some .int)) (rmC 3 0 0) (va_Pc [.ref x0, .int x1, .int x2, .int x3, .int x4, .int x5] (CU T g d)) (Qc T (some (.int v.1)) g v.2) 0 0 (cA T) :=
  c_met [.ref x0, .int x1, .int x2, .int x3, .int x4, .int x5] RX1 (by decide) rfl (Nat.le_of_ble_eq_true rfl) (fun K hl hR hr C B hQ => w_X1_feed_E _ _ C B hr hR hQ _ _ _ _ _ _ _ hf)
