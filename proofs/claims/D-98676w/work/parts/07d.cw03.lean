set_option maxRecDepth 100000
def f_X1_square (n : Nat) (g : CG) (d : CD) (x0 : Nat) (x1 : Int32) (x2 : Int32) : Option Int32 := if ht g x0 = 1 then (f_X1_isSquare g d x0 x1).bind fun r2 => if r2 = 0 then (some (-1 : Int32)) else (if x2 = (0 : Int32) then ((hr g x0 6).bind fun p8 => if ht g p8 = 3 then (hr g p8 4).bind fun p10 => if ht g p10 = 100 then if inb x1 (hn g p10) = true then some (hi d p10 (Int32.toNatClampNeg x1)) else none else none else none) else (if x2 = (1 : Int32) then ((hr g x0 7).bind fun p13 => (hr g x0 6).bind fun p14 => if ht g p13 = 4 then (f_X4_at n g d p13 p14 x1).bind fun r16 => some r16 else none) else (if x2 = (2 : Int32) then ((hr g x0 6).bind fun p17 => if ht g p17 = 3 then (hr g p17 5).bind fun p19 => if ht g p19 = 100 then if inb x1 (hn g p19) = true then some (hi d p19 (Int32.toNatClampNeg x1)) else none else none else none) else (if x2 = (3 : Int32) then ((hr g x0 6).bind fun p22 => if ht g p22 = 3 then (f_X3_passers n g d p22 x1).bind fun r24 => some r24 else none) else (some (-1 : Int32)))))) else none
set_option maxHeartbeats 4000000 in
theorem w_X1_square_E {K : KT} {T : CT} {r : Int32} (n : Nat) (g : CG) (d : CD) (C : Kok K cX1_square 3 RX1) (B : CB K T) (hr : (kMe K).sig.returnType = (some .int)) (dK : kR K = rmC 4 0 0) (hQ : KQc K T (some (.int r)) 0 0 g d) (x0 : Nat) (x1 : Int32) (x2 : Int32) (hf : f_X1_square n g d x0 x1 x2 = some r) : XJ K 3 (Wc K T 0 0 g d) 0 [(0, .ref x0), (1, .int x1), (2, .int x2)] [] := by
  unfold f_X1_square at hf
  refine x_aload_n C dX1_square_0 0 rfl ?_
  refine x_iload_n C dX1_square_1 1 rfl ?_
  obtain ⟨t1, hf⟩ := pf_ch hf
  obtain ⟨r2, er2, hf⟩ := pf_b hf
  refine k_X1_isSquare_X1 C B t1 dK (Nat.le_of_ble_eq_true rfl) cz er2 (Nat.le_of_ble_eq_true rfl) dX1_square_2 ?_
  refine x_if_ne (tgt := 10) C dX1_square_5 (by decide) (fun c3 => ?_) (fun c3 => ?_)
  · have hf := pf_f c3 hf
    refine x_iload_n C dX1_square_10 2 rfl ?_
    by_cases c4 : x2 = (0 : Int32)
    · have hf := pf_t c4 hf
      refine x_tableIn (off := 29) (tgt := 40) C dX1_square_11 (by rw [c4]; decide) (by rw [c4]; decide) (by rw [c4]; decide) (by decide) ?_
      refine x_aload_n C dX1_square_40 0 rfl ?_
      obtain ⟨p8, ep8, hf⟩ := pf_b hf
      refine cg1_6 C B t1 (flo C q621) fsm ep8 dX1_square_41 ?_
      obtain ⟨t9, hf⟩ := pf_ch hf
      obtain ⟨p10, ep10, hf⟩ := pf_b hf
      refine cg3_4 C B t9 (fln B q285) fsm ep10 dX1_square_44 ?_
      refine x_iload_n C dX1_square_47 1 rfl ?_
      obtain ⟨t11, hf⟩ := pf_ch hf
      obtain ⟨h12, hf⟩ := pf_in hf
      refine ca_ild C B t11 h12 dX1_square_48 ?_
      obtain rfl := Option.some.inj hf
      exact c_iret C hr hQ dX1_square_49
    · have hf := pf_f c4 hf
      by_cases c5 : x2 = (1 : Int32)
      · have hf := pf_t c5 hf
        refine x_tableIn (off := 39) (tgt := 50) C dX1_square_11 (by rw [c5]; decide) (by rw [c5]; decide) (by rw [c5]; decide) (by decide) ?_
        refine x_aload_n C dX1_square_50 0 rfl ?_
        obtain ⟨p13, ep13, hf⟩ := pf_b hf
        refine cg1_7 C B t1 (flo C q624) fsm ep13 dX1_square_51 ?_
        refine x_aload_n C dX1_square_54 0 rfl ?_
        obtain ⟨p14, ep14, hf⟩ := pf_b hf
        refine cg1_6 C B t1 (flo C q621) fsm ep14 dX1_square_55 ?_
        refine x_iload_n C dX1_square_58 1 rfl ?_
        obtain ⟨t15, hf⟩ := pf_ch hf
        obtain ⟨r16, er16, hf⟩ := pf_b hf
        refine k_X4_at_X1 C B t15 dK (Nat.le_of_ble_eq_true rfl) cz er16 (Nat.le_of_ble_eq_true rfl) dX1_square_59 ?_
        obtain rfl := Option.some.inj hf
        exact c_iret C hr hQ dX1_square_62
      · have hf := pf_f c5 hf
        by_cases c6 : x2 = (2 : Int32)
        · have hf := pf_t c6 hf
          refine x_tableIn (off := 52) (tgt := 63) C dX1_square_11 (by rw [c6]; decide) (by rw [c6]; decide) (by rw [c6]; decide) (by decide) ?_
          refine x_aload_n C dX1_square_63 0 rfl ?_
          obtain ⟨p17, ep17, hf⟩ := pf_b hf
          refine cg1_6 C B t1 (flo C q621) fsm ep17 dX1_square_64 ?_
          obtain ⟨t18, hf⟩ := pf_ch hf
          obtain ⟨p19, ep19, hf⟩ := pf_b hf
          refine cg3_5 C B t18 (fln B q288) fsm ep19 dX1_square_67 ?_
          refine x_iload_n C dX1_square_70 1 rfl ?_
          obtain ⟨t20, hf⟩ := pf_ch hf
          obtain ⟨h21, hf⟩ := pf_in hf
          refine ca_ild C B t20 h21 dX1_square_71 ?_
          obtain rfl := Option.some.inj hf
          exact c_iret C hr hQ dX1_square_72
        · have hf := pf_f c6 hf
          by_cases c7 : x2 = (3 : Int32)
          · have hf := pf_t c7 hf
            refine x_tableIn (off := 62) (tgt := 73) C dX1_square_11 (by rw [c7]; decide) (by rw [c7]; decide) (by rw [c7]; decide) (by decide) ?_
            refine x_aload_n C dX1_square_73 0 rfl ?_
            obtain ⟨p22, ep22, hf⟩ := pf_b hf
            refine cg1_6 C B t1 (flo C q621) fsm ep22 dX1_square_74 ?_
            refine x_iload_n C dX1_square_77 1 rfl ?_
            obtain ⟨t23, hf⟩ := pf_ch hf
            obtain ⟨r24, er24, hf⟩ := pf_b hf
            refine k_X3_passers_X1 C B t23 dK (Nat.le_of_ble_eq_true rfl) cz er24 (Nat.le_of_ble_eq_true rfl) dX1_square_78 ?_
            obtain rfl := Option.some.inj hf
            exact c_iret C hr hQ dX1_square_81
          · have hf := pf_f c7 hf
            refine x_tableOut (tgt := 82) C dX1_square_11 (by have := lv_neT c4 (show (0 : Int32).toInt = (0 : Int) by decide); have := lv_neT c5 (show (1 : Int32).toInt = (1 : Int) by decide); have := lv_neT c6 (show (2 : Int32).toInt = (2 : Int) by decide); have := lv_neT c7 (show (3 : Int32).toInt = (3 : Int) by decide); omega) (by decide) ?_
            refine x_iconst (-1 : Int32) C dX1_square_82 (by decide) ?_
            obtain rfl := Option.some.inj hf
            exact c_iret C hr hQ dX1_square_83
  · have hf := pf_t c3 hf
    refine x_iconst (-1 : Int32) C dX1_square_8 (by decide) ?_
    obtain rfl := Option.some.inj hf
    exact c_iret C hr hQ dX1_square_9
theorem met_X1_square {T : CT} {v : Int32} {n : Nat} {g : CG} {d : CD} {x0 : Nat} {x1 : Int32} {x2 : Int32} {l : Launch} (hf : f_X1_square n g d x0 x1 x2 = some v) : Met l yX1_square (ws_ yX1_square cX1_square 3 (some .int)) (rmC 4 0 0) (va_Pc [.ref x0, .int x1, .int x2] (CU T g d)) (Qc T (some (.int v)) g d) 0 0 (cA T) :=
  c_met [.ref x0, .int x1, .int x2] RX1 (by decide) rfl (Nat.le_of_ble_eq_true rfl) (fun K hl hR hr C B hQ => w_X1_square_E _ _ _ C B hr hR hQ _ _ _ hf)
def f_X1_surely (g : CG) (d : CD) (x0 : Nat) : Option Int32 := if ht g x0 = 1 then if (hi d x0 29) = 0 then (some (-1 : Int32)) else (some (hi d x0 27)) else none
set_option maxHeartbeats 4000000 in
theorem w_X1_surely_E {K : KT} {T : CT} {r : Int32} (g : CG) (d : CD) (C : Kok K cX1_surely 1 RX1) (B : CB K T) (hr : (kMe K).sig.returnType = (some .int)) (dK : kR K = rmC 2 0 0) (hQ : KQc K T (some (.int r)) 0 0 g d) (x0 : Nat) (hf : f_X1_surely g d x0 = some r) : XJ K 1 (Wc K T 0 0 g d) 0 [(0, .ref x0)] [] := by
  unfold f_X1_surely at hf
  refine x_aload_n C dX1_surely_0 0 rfl ?_
  obtain ⟨t1, hf⟩ := pf_ch hf
  refine cg1_29 C B t1 (flo C q648) fsm dX1_surely_1 ?_
  refine x_if_eq (tgt := 14) C dX1_surely_4 (by decide) (fun c2 => ?_) (fun c2 => ?_)
  · have hf := pf_t c2 hf
    refine x_iconst (-1 : Int32) C dX1_surely_14 (by decide) ?_
    obtain rfl := Option.some.inj hf
    exact c_iret C hr hQ dX1_surely_15
  · have hf := pf_f c2 hf
    refine x_aload_n C dX1_surely_7 0 rfl ?_
    refine cg1_27 C B t1 (flo C q646) fsm dX1_surely_8 ?_
    refine x_goto (tgt := 15) C dX1_surely_11 (by decide) ?_
    obtain rfl := Option.some.inj hf
    exact c_iret C hr hQ dX1_surely_15
theorem met_X1_surely {T : CT} {v : Int32} {g : CG} {d : CD} {x0 : Nat} {l : Launch} (hf : f_X1_surely g d x0 = some v) : Met l yX1_surely (ws_ yX1_surely cX1_surely 1 (some .int)) (rmC 2 0 0) (va_Pc [.ref x0] (CU T g d)) (Qc T (some (.int v)) g d) 0 0 (cA T) :=
  c_met [.ref x0] RX1 (by decide) rfl (Nat.le_of_ble_eq_true rfl) (fun K hl hR hr C B hQ => w_X1_surely_E _ _ C B hr hR hQ _ hf)
def f_X1_tells (g : CG) (d : CD) (x0 : Nat) : Option Int32 := if ht g x0 = 1 then if (hi d x0 29) = 0 then (some (-1 : Int32)) else (some (hi d x0 28)) else none
set_option maxHeartbeats 4000000 in
theorem w_X1_tells_E {K : KT} {T : CT} {r : Int32} (g : CG) (d : CD) (C : Kok K cX1_tells 1 RX1) (B : CB K T) (hr : (kMe K).sig.returnType = (some .int)) (dK : kR K = rmC 2 0 0) (hQ : KQc K T (some (.int r)) 0 0 g d) (x0 : Nat) (hf : f_X1_tells g d x0 = some r) : XJ K 1 (Wc K T 0 0 g d) 0 [(0, .ref x0)] [] := by
  unfold f_X1_tells at hf
  refine x_aload_n C dX1_tells_0 0 rfl ?_
  obtain ⟨t1, hf⟩ := pf_ch hf
  refine cg1_29 C B t1 (flo C q648) fsm dX1_tells_1 ?_
  refine x_if_eq (tgt := 14) C dX1_tells_4 (by decide) (fun c2 => ?_) (fun c2 => ?_)
  · have hf := pf_t c2 hf
    refine x_iconst (-1 : Int32) C dX1_tells_14 (by decide) ?_
    obtain rfl := Option.some.inj hf
    exact c_iret C hr hQ dX1_tells_15
  · have hf := pf_f c2 hf
    refine x_aload_n C dX1_tells_7 0 rfl ?_
    refine cg1_28 C B t1 (flo C q647) fsm dX1_tells_8 ?_
    refine x_goto (tgt := 15) C dX1_tells_11 (by decide) ?_
    obtain rfl := Option.some.inj hf
    exact c_iret C hr hQ dX1_tells_15
theorem met_X1_tells {T : CT} {v : Int32} {g : CG} {d : CD} {x0 : Nat} {l : Launch} (hf : f_X1_tells g d x0 = some v) : Met l yX1_tells (ws_ yX1_tells cX1_tells 1 (some .int)) (rmC 2 0 0) (va_Pc [.ref x0] (CU T g d)) (Qc T (some (.int v)) g d) 0 0 (cA T) :=
  c_met [.ref x0] RX1 (by decide) rfl (Nat.le_of_ble_eq_true rfl) (fun K hl hR hr C B hQ => w_X1_tells_E _ _ C B hr hR hQ _ hf)
def f_X1_trodden (g : CG) (d : CD) (x0 : Nat) : Option Int32 := if ht g x0 = 1 then if (hi d x0 33) = 0 then (some (-1 : Int32)) else (some (hi d x0 32)) else none
set_option maxHeartbeats 4000000 in
theorem w_X1_trodden_E {K : KT} {T : CT} {r : Int32} (g : CG) (d : CD) (C : Kok K cX1_trodden 1 RX1) (B : CB K T) (hr : (kMe K).sig.returnType = (some .int)) (dK : kR K = rmC 2 0 0) (hQ : KQc K T (some (.int r)) 0 0 g d) (x0 : Nat) (hf : f_X1_trodden g d x0 = some r) : XJ K 1 (Wc K T 0 0 g d) 0 [(0, .ref x0)] [] := by
  unfold f_X1_trodden at hf
  refine x_aload_n C dX1_trodden_0 0 rfl ?_
  obtain ⟨t1, hf⟩ := pf_ch hf
  refine cg1_33 C B t1 (flo C q652) fsm dX1_trodden_1 ?_
  refine x_if_eq (tgt := 14) C dX1_trodden_4 (by decide) (fun c2 => ?_) (fun c2 => ?_)
  · have hf := pf_t c2 hf
    refine x_iconst (-1 : Int32) C dX1_trodden_14 (by decide) ?_
    obtain rfl := Option.some.inj hf
    exact c_iret C hr hQ dX1_trodden_15
  · have hf := pf_f c2 hf
    refine x_aload_n C dX1_trodden_7 0 rfl ?_
    refine cg1_32 C B t1 (flo C q651) fsm dX1_trodden_8 ?_
    refine x_goto (tgt := 15) C dX1_trodden_11 (by decide) ?_
    obtain rfl := Option.some.inj hf
    exact c_iret C hr hQ dX1_trodden_15
theorem met_X1_trodden {T : CT} {v : Int32} {g : CG} {d : CD} {x0 : Nat} {l : Launch} (hf : f_X1_trodden g d x0 = some v) : Met l yX1_trodden (ws_ yX1_trodden cX1_trodden 1 (some .int)) (rmC 2 0 0) (va_Pc [.ref x0] (CU T g d)) (Qc T (some (.int v)) g d) 0 0 (cA T) :=
  c_met [.ref x0] RX1 (by decide) rfl (Nat.le_of_ble_eq_true rfl) (fun K hl hR hr C B hQ => w_X1_trodden_E _ _ C B hr hR hQ _ hf)
def f_X1_undo (n : Nat) (g : CG) (x0 : Nat) (d : CD) : Option (Int32 × CD) := if ht g x0 = 1 then if (hi d x0 13) = 0 then (some ((-1 : Int32), d)) else (ev (wi d x0 13 ((hi d x0 13) - (1 : Int32))) fun s3 => (hr g x0 7).bind fun p4 => (hr g x0 12).bind fun p5 => if ht g p5 = 104 then if inb (hi s3 x0 13) (hn g p5) = true then (hr g p5 (Int32.toNatClampNeg (hi s3 x0 13))).bind fun p8 => if ht g p4 = 4 then (f_X4_be n g p4 p8 s3).bind fun r10 => some (hi r10 x0 13, r10) else none else none else none) else none
set_option maxHeartbeats 4000000 in
theorem w_X1_undo_E {K : KT} {T : CT} {r : Int32} {τ : CD} (n : Nat) (g : CG) (C : Kok K cX1_undo 1 RX1) (B : CB K T) (hr : (kMe K).sig.returnType = (some .int)) (dK : kR K = rmC 4 0 0) (hQ : KQc K T (some (.int r)) 0 0 g τ) (x0 : Nat) (d : CD) (hf : f_X1_undo n g x0 d = some (r, τ)) : XJ K 1 (Wc K T 0 0 g d) 0 [(0, .ref x0)] [] := by
  unfold f_X1_undo at hf
  refine x_aload_n C dX1_undo_0 0 rfl ?_
  obtain ⟨t1, hf⟩ := pf_ch hf
  refine cg1_13 C B t1 (flo C q632) fsm dX1_undo_1 ?_
  refine x_if_ne (tgt := 9) C dX1_undo_4 (by decide) (fun c2 => ?_) (fun c2 => ?_)
  · have hf := pf_f c2 hf
    refine x_aload_n C dX1_undo_9 0 rfl ?_
    refine x_dup C dX1_undo_10 rfl ?_
    refine cg1_13 C B t1 (flo C q632) fsm dX1_undo_11 ?_
    refine x_iconst (1 : Int32) C dX1_undo_14 (by decide) ?_
    refine x_isub C dX1_undo_15 ?_
    refine cp1_13 C B t1 (flo C q632) fsm dX1_undo_16 ?_
    obtain ⟨s3, es3, hf⟩ := pf_e hf
    refine c_ren es3 ?_
    refine x_aload_n C dX1_undo_19 0 rfl ?_
    obtain ⟨p4, ep4, hf⟩ := pf_b hf
    refine cg1_7 C B t1 (flo C q624) fsm ep4 dX1_undo_20 ?_
    refine x_aload_n C dX1_undo_23 0 rfl ?_
    obtain ⟨p5, ep5, hf⟩ := pf_b hf
    refine cg1_12 C B t1 (flo C q631) fsm ep5 dX1_undo_24 ?_
    refine x_aload_n C dX1_undo_27 0 rfl ?_
    refine cg1_13 C B t1 (flo C q632) fsm dX1_undo_28 ?_
    obtain ⟨t6, hf⟩ := pf_ch hf
    obtain ⟨h7, hf⟩ := pf_in hf
    obtain ⟨p8, ep8, hf⟩ := pf_b hf
    refine ca_ald4 C B t6 h7 ep8 dX1_undo_31 ?_
    obtain ⟨t9, hf⟩ := pf_ch hf
    obtain ⟨r10, er10, hf⟩ := pf_b hf
    refine k_X4_be_X1 C B t9 dK (Nat.le_of_ble_eq_true rfl) cz er10 (Nat.le_of_ble_eq_true rfl) dX1_undo_32 ?_
    refine x_aload_n C dX1_undo_35 0 rfl ?_
    refine cg1_13 C B t1 (flo C q632) fsm dX1_undo_36 ?_
    obtain ⟨rfl, rfl⟩ := Prod.mk.inj (Option.some.inj hf)
    exact c_iret C hr hQ dX1_undo_39
  · have hf := pf_t c2 hf
    refine x_iconst (-1 : Int32) C dX1_undo_7 (by decide) ?_
    obtain ⟨rfl, rfl⟩ := Prod.mk.inj (Option.some.inj hf)
    exact c_iret C hr hQ dX1_undo_8
theorem met_X1_undo {T : CT} {v : (Int32 × CD)} {n : Nat} {g : CG} {d : CD} {x0 : Nat} {l : Launch} (hf : f_X1_undo n g x0 d = some v) : Met l yX1_undo (ws_ yX1_undo cX1_undo 1 (some .int)) (rmC 4 0 0) (va_Pc [.ref x0] (CU T g d)) (Qc T (some (.int v.1)) g v.2) 0 0 (cA T) :=
  c_met [.ref x0] RX1 (by decide) rfl (Nat.le_of_ble_eq_true rfl) (fun K hl hR hr C B hQ => w_X1_undo_E _ _ C B hr hR hQ _ _ hf)
def f_X1_way (g : CG) (d : CD) (x0 : Nat) (x1 : Int32) (x2 : Int32) : Option Int32 := if ht g x0 = 1 then (f_X1_isWalker g d x0 x1).bind fun r2 => if r2 = 0 then (some (-1 : Int32)) else ((hr g x0 6).bind fun p4 => if ht g p4 = 3 then (hr g p4 15).bind fun p6 => if ht g p6 = 108 then if inb x1 (hn g p6) = true then (hr g p6 (Int32.toNatClampNeg x1)).bind fun p9 => if ht g p9 = 100 then if (f_X1_isIn x2 (0 : Int32) ((Int32.ofNat (hn g p9)) - (1 : Int32))) = 0 then (some (-1 : Int32)) else (if inb x2 (hn g p9) = true then some (hi d p9 (Int32.toNatClampNeg x2)) else none) else none else none else none else none) else none
set_option maxHeartbeats 4000000 in
theorem w_X1_way_E {K : KT} {T : CT} {r : Int32} (g : CG) (d : CD) (C : Kok K cX1_way 3 RX1) (B : CB K T) (hr : (kMe K).sig.returnType = (some .int)) (dK : kR K = rmC 4 0 0) (hQ : KQc K T (some (.int r)) 0 0 g d) (x0 : Nat) (x1 : Int32) (x2 : Int32) (hf : f_X1_way g d x0 x1 x2 = some r) : XJ K 3 (Wc K T 0 0 g d) 0 [(0, .ref x0), (1, .int x1), (2, .int x2)] [] := by
  unfold f_X1_way at hf
  refine x_aload_n C dX1_way_0 0 rfl ?_
  refine x_iload_n C dX1_way_1 1 rfl ?_
  obtain ⟨t1, hf⟩ := pf_ch hf
  obtain ⟨r2, er2, hf⟩ := pf_b hf
  refine k_X1_isWalker_X1 C B t1 dK (Nat.le_of_ble_eq_true rfl) cz er2 (Nat.le_of_ble_eq_true rfl) dX1_way_2 ?_
  refine x_if_eq (tgt := 42) C dX1_way_5 (by decide) (fun c3 => ?_) (fun c3 => ?_)
  · have hf := pf_t c3 hf
    refine x_iconst (-1 : Int32) C dX1_way_42 (by decide) ?_
    obtain rfl := Option.some.inj hf
    exact c_iret C hr hQ dX1_way_43
  · have hf := pf_f c3 hf
    refine x_iload_n C dX1_way_8 2 rfl ?_
    refine x_iconst (0 : Int32) C dX1_way_9 (by decide) ?_
    refine x_aload_n C dX1_way_10 0 rfl ?_
    obtain ⟨p4, ep4, hf⟩ := pf_b hf
    refine cg1_6 C B t1 (flo C q621) fsm ep4 dX1_way_11 ?_
    obtain ⟨t5, hf⟩ := pf_ch hf
    obtain ⟨p6, ep6, hf⟩ := pf_b hf
    refine cg3_15 C B t5 (fln B q319) fsm ep6 dX1_way_14 ?_
    refine x_iload_n C dX1_way_17 1 rfl ?_
    obtain ⟨t7, hf⟩ := pf_ch hf
    obtain ⟨h8, hf⟩ := pf_in hf
    obtain ⟨p9, ep9, hf⟩ := pf_b hf
    refine ca_ald8 C B t7 h8 ep9 dX1_way_18 ?_
    obtain ⟨t10, hf⟩ := pf_ch hf
    refine ca_len C B t10 (Or.inl rfl) rfl dX1_way_19 ?_
    refine x_iconst (1 : Int32) C dX1_way_20 (by decide) ?_
    refine x_isub C dX1_way_21 ?_
    refine k_X1_isIn_X1 C B dK (Nat.le_of_ble_eq_true rfl) cz rfl (Nat.le_of_ble_eq_true rfl) dX1_way_22 ?_
    refine x_if_eq (tgt := 42) C dX1_way_25 (by decide) (fun c11 => ?_) (fun c11 => ?_)
    · have hf := pf_t c11 hf
      refine x_iconst (-1 : Int32) C dX1_way_42 (by decide) ?_
      obtain rfl := Option.some.inj hf
      exact c_iret C hr hQ dX1_way_43
    · have hf := pf_f c11 hf
      refine x_aload_n C dX1_way_28 0 rfl ?_
      refine cg1_6 C B t1 (flo C q621) fsm ep4 dX1_way_29 ?_
      refine cg3_15 C B t5 (fln B q319) fsm ep6 dX1_way_32 ?_
      refine x_iload_n C dX1_way_35 1 rfl ?_
      refine ca_ald8 C B t7 h8 ep9 dX1_way_36 ?_
      refine x_iload_n C dX1_way_37 2 rfl ?_
      obtain ⟨h12, hf⟩ := pf_in hf
      refine ca_ild C B t10 h12 dX1_way_38 ?_
      refine x_goto (tgt := 43) C dX1_way_39 (by decide) ?_
      obtain rfl := Option.some.inj hf
      exact c_iret C hr hQ dX1_way_43
theorem met_X1_way {T : CT} {v : Int32} {g : CG} {d : CD} {x0 : Nat} {x1 : Int32} {x2 : Int32} {l : Launch} (hf : f_X1_way g d x0 x1 x2 = some v) : Met l yX1_way (ws_ yX1_way cX1_way 3 (some .int)) (rmC 4 0 0) (va_Pc [.ref x0, .int x1, .int x2] (CU T g d)) (Qc T (some (.int v)) g d) 0 0 (cA T) :=
  c_met [.ref x0, .int x1, .int x2] RX1 (by decide) rfl (Nat.le_of_ble_eq_true rfl) (fun K hl hR hr C B hQ => w_X1_way_E _ _ C B hr hR hQ _ _ _ hf)
theorem k_J2_fill_X4 {K : KT} {T : CT} {c0 s0 c1 s1 dk : Nat} {cc : ByteArray} {nL pc : Nat} {L : List (Nat × Value)} {rest : List Value} {g : CG} {d : CD} {v : CD} {n : Nat} {x0 : Nat} {x1 : Int32} (C : Kok K cc nL RX4) (B : CB K T) (dK : kR K = rmC dk c1 s1) (hd : 2 + 1 ≤ dk) (hcs : c0 + 0 ≤ c1 ∧ s0 + 0 ≤ s1) (hf : f_J2_fill n g x0 x1 d = some v) (hW : (rest.map fun v => v.category).sum ≤ 8) (dd : decode cc pc = .ok (.invokestatic 75, 3)) (kk2 : XJ K nL (Wc K T c0 s0 g v) (pc + 3) L (rest)) : XJ K nL (Wc K T c0 s0 g d) pc L (.int x1 :: .ref x0 :: rest) :=
  c_callS (rest := rest) (v := none) [.ref x0, .int x1] 2 rfl C B dK hd (Nat.le_of_ble_eq_true rfl) hcs (lw_S q564 q565 q131 q566) (by decide +kernel) (met_J2_fill hf) rfl hW dd kk2
def f_X4_begin_L44 (n : Nat) (g : CG) (k2 : Nat → Nat → Int32 → CD → Option CD) (x0 : Nat) (x1 : Nat) (x2 : Int32) (x3 : Nat) (y0 : Nat) (y1 : Int32) (d : CD) : Option CD := if ht g y0 = 5 then ev (wi d y0 1 y1) fun s2 => if ht g x1 = 3 then (hr g x1 8).bind fun p4 => if ht g p4 = 100 then if inb x2 (hn g p4) = true then if ht g x3 = 5 then ev (wi s2 x3 2 (hi s2 p4 (Int32.toNatClampNeg x2))) fun s8 => ev (wi s8 x3 3 (0 : Int32)) fun s9 => ev (wi s9 x3 4 (0 : Int32)) fun s10 => ev (wi s10 x3 5 (0 : Int32)) fun s11 => k2 x0 x1 (x2 + (1 : Int32)) s11 else none else none else none else none else none
set_option maxHeartbeats 4000000 in
theorem w_X4_begin_44 {K : KT} {T : CT} {τ : CD} (n : Nat) (g : CG) (k2 : Nat → Nat → Int32 → CD → Option CD) (C : Kok K cX4_begin 4 RX4) (B : CB K T) (hr : (kMe K).sig.returnType = none) (dK : kR K = rmC 3 0 0) (hQ : KQc K T none 0 0 g τ)  (hk2 : ∀ (x0 : Nat) (x1 : Nat) (x2 : Int32) (d : CD), k2 x0 x1 x2 d = some τ → XJ K 4 (Wc K T 0 0 g d) 2 [(0, .ref x0), (1, .ref x1), (2, .int x2)] []) (x0 : Nat) (x1 : Nat) (x2 : Int32) (x3 : Nat) (y0 : Nat) (y1 : Int32) (d : CD) (hf : f_X4_begin_L44 n g k2 x0 x1 x2 x3 y0 y1 d = some τ) : XJ K 4 (Wc K T 0 0 g d) 44 [(0, .ref x0), (1, .ref x1), (2, .int x2), (3, .ref x3)] [.int y1, .ref y0] := by
  unfold f_X4_begin_L44 at hf
  obtain ⟨t1, hf⟩ := pf_ch hf
  refine cp5_1 C B t1 (fln B q416) fsm dX4_begin_44 ?_
  obtain ⟨s2, es2, hf⟩ := pf_e hf
  refine c_ren es2 ?_
  refine x_aload_n C dX4_begin_47 3 rfl ?_
  refine x_aload_n C dX4_begin_48 1 rfl ?_
  obtain ⟨t3, hf⟩ := pf_ch hf
  obtain ⟨p4, ep4, hf⟩ := pf_b hf
  refine cg3_8 C B t3 (fln B q296) fsm ep4 dX4_begin_49 ?_
  refine x_iload_n C dX4_begin_52 2 rfl ?_
  obtain ⟨t5, hf⟩ := pf_ch hf
  obtain ⟨h6, hf⟩ := pf_in hf
  refine ca_ild C B t5 h6 dX4_begin_53 ?_
  obtain ⟨t7, hf⟩ := pf_ch hf
  refine cp5_2 C B t7 (fln B q420) fsm dX4_begin_54 ?_
  obtain ⟨s8, es8, hf⟩ := pf_e hf
  refine c_ren es8 ?_
  refine x_aload_n C dX4_begin_57 3 rfl ?_
  refine x_iconst (0 : Int32) C dX4_begin_58 (by decide) ?_
  refine cp5_3 C B t7 (fln B q424) fsm dX4_begin_59 ?_
  obtain ⟨s9, es9, hf⟩ := pf_e hf
  refine c_ren es9 ?_
  refine x_aload_n C dX4_begin_62 3 rfl ?_
  refine x_iconst (0 : Int32) C dX4_begin_63 (by decide) ?_
  refine cp5_4 C B t7 (fln B q428) fsm dX4_begin_64 ?_
  obtain ⟨s10, es10, hf⟩ := pf_e hf
  refine c_ren es10 ?_
  refine x_aload_n C dX4_begin_67 3 rfl ?_
  refine x_iconst (0 : Int32) C dX4_begin_68 (by decide) ?_
  refine cp5_5 C B t7 (fln B q432) fsm (Or.inl rfl) dX4_begin_69 ?_
  obtain ⟨s11, es11, hf⟩ := pf_e hf
  refine c_ren es11 ?_
  refine x_inc (c := (1 : Int32)) (L' := [(0, .ref x0), (1, .ref x1), (2, .int (x2 + (1 : Int32)))]) C dX4_begin_72 2 rfl (by decide) (Nat.le_of_ble_eq_true rfl) [1, 2, 0] rfl ?_
  refine x_goto (tgt := 2) C dX4_begin_75 (by decide) ?_
  exact hk2 x0 x1 (x2 + (1 : Int32)) _ hf
def f_X4_begin_L2 (n : Nat) (g : CG) : Nat → Nat → Nat → Int32 → CD → Option CD
  | 0, _, _, _, _ => none
  | m + 1, x0, x1, x2, d => if (8 : Int32) ≤ x2 then (if ht g x0 = 4 then (hr g x0 1).bind fun p3 => (f_J2_fill n g p3 (0 : Int32) d).bind fun r4 => (hr g x0 2).bind fun p5 => (f_J2_fill n g p5 (0 : Int32) r4).bind fun r6 => ev (wi r6 x0 4 (0 : Int32)) fun s7 => ev (wi s7 x0 5 (0 : Int32)) fun s8 => some s8 else none) else (if ht g x0 = 4 then (hr g x0 0).bind fun p10 => if ht g p10 = 105 then if inb x2 (hn g p10) = true then (hr g p10 (Int32.toNatClampNeg x2)).bind fun p13 => if ht g x1 = 3 then (hr g x1 6).bind fun p15 => if ht g p15 = 100 then if inb x2 (hn g p15) = true then if ht g p13 = 5 then ev (wi d p13 0 (hi d p15 (Int32.toNatClampNeg x2))) fun s19 => if (hi s19 x1 20) ≤ x2 then (f_X4_begin_L44 n g (f_X4_begin_L2 n g m) x0 x1 x2 p13 p13 (-1 : Int32) s19) else ((hr g x1 7).bind fun p21 => if ht g p21 = 100 then if inb x2 (hn g p21) = true then f_X4_begin_L44 n g (f_X4_begin_L2 n g m) x0 x1 x2 p13 p13 (hi s19 p21 (Int32.toNatClampNeg x2)) s19 else none else none) else none else none else none else none else none else none else none)
set_option maxHeartbeats 4000000 in
theorem w_X4_begin_2 {K : KT} {T : CT} {τ : CD} (n : Nat) (g : CG) (C : Kok K cX4_begin 4 RX4) (B : CB K T) (hr : (kMe K).sig.returnType = none) (dK : kR K = rmC 3 0 0) (hQ : KQc K T none 0 0 g τ) : ∀ (m : Nat) (x0 : Nat) (x1 : Nat) (x2 : Int32) (d : CD) (hf : f_X4_begin_L2 n g m x0 x1 x2 d = some τ), XJ K 4 (Wc K T 0 0 g d) 2 [(0, .ref x0), (1, .ref x1), (2, .int x2)] [] := by
  intro m
  induction m with
  | zero => intro x0 x1 x2 d hf; cases hf
  | succ m ih =>
    intro x0 x1 x2 d hf
    rw [f_X4_begin_L2] at hf
    refine x_iload_n C dX4_begin_2 2 rfl ?_
    refine x_bipush (8 : Int32) C dX4_begin_3 (by decide) ?_
    refine x_icmp_ge (tgt := 78) C dX4_begin_5 (by decide) (fun c1 => ?_) (fun c1 => ?_)
    · have hf := pf_t c1 hf
      refine x_aload_n C dX4_begin_78 0 rfl ?_
      obtain ⟨t2, hf⟩ := pf_ch hf
      obtain ⟨p3, ep3, hf⟩ := pf_b hf
      refine cg4_1 C B t2 (flo C q452) fsm ep3 dX4_begin_79 ?_
      refine x_iconst (0 : Int32) C dX4_begin_82 (by decide) ?_
      obtain ⟨r4, er4, hf⟩ := pf_b hf
      refine k_J2_fill_X4 C B dK (Nat.le_of_ble_eq_true rfl) cz er4 (Nat.le_of_ble_eq_true rfl) dX4_begin_83 ?_
      refine x_aload_n C dX4_begin_86 0 rfl ?_
      obtain ⟨p5, ep5, hf⟩ := pf_b hf
      refine cg4_2 C B t2 (flo C q454) fsm ep5 dX4_begin_87 ?_
      refine x_iconst (0 : Int32) C dX4_begin_90 (by decide) ?_
      obtain ⟨r6, er6, hf⟩ := pf_b hf
      refine k_J2_fill_X4 C B dK (Nat.le_of_ble_eq_true rfl) cz er6 (Nat.le_of_ble_eq_true rfl) dX4_begin_91 ?_
      refine x_aload_n C dX4_begin_94 0 rfl ?_
      refine x_iconst (0 : Int32) C dX4_begin_95 (by decide) ?_
      refine cp4_4 C B t2 (flo C q458) fsm dX4_begin_96 ?_
      obtain ⟨s7, es7, hf⟩ := pf_e hf
      refine c_ren es7 ?_
      refine x_aload_n C dX4_begin_99 0 rfl ?_
      refine x_iconst (0 : Int32) C dX4_begin_100 (by decide) ?_
      refine cp4_5 C B t2 (flo C q460) fsm dX4_begin_101 ?_
      obtain ⟨s8, es8, hf⟩ := pf_e hf
      refine c_ren es8 ?_
      obtain rfl := Option.some.inj hf
      exact c_vret C hr hQ dX4_begin_104
    · have hf := pf_f c1 hf
      refine x_aload_n C dX4_begin_8 0 rfl ?_
      obtain ⟨t9, hf⟩ := pf_ch hf
      obtain ⟨p10, ep10, hf⟩ := pf_b hf
      refine cg4_0 C B t9 (flo C q447) fsm ep10 dX4_begin_9 ?_
      refine x_iload_n C dX4_begin_12 2 rfl ?_
      obtain ⟨t11, hf⟩ := pf_ch hf
      obtain ⟨h12, hf⟩ := pf_in hf
      obtain ⟨p13, ep13, hf⟩ := pf_b hf
      refine ca_ald5 C B t11 h12 ep13 dX4_begin_13 ?_
      refine x_astore_n (L' := [(0, .ref x0), (1, .ref x1), (2, .int x2), (3, .ref p13)]) C dX4_begin_14 (Nat.le_of_ble_eq_true rfl) [1, 2, 3, 0] rfl ?_
      refine x_aload_n C dX4_begin_15 3 rfl ?_
      refine x_aload_n C dX4_begin_16 1 rfl ?_
      obtain ⟨t14, hf⟩ := pf_ch hf
      obtain ⟨p15, ep15, hf⟩ := pf_b hf
      refine cg3_6 C B t14 (fln B q290) fsm ep15 dX4_begin_17 ?_
      refine x_iload_n C dX4_begin_20 2 rfl ?_
      obtain ⟨t16, hf⟩ := pf_ch hf
      obtain ⟨h17, hf⟩ := pf_in hf
      refine ca_ild C B t16 h17 dX4_begin_21 ?_
      obtain ⟨t18, hf⟩ := pf_ch hf
      refine cp5_0 C B t18 (fln B q411) fsm dX4_begin_22 ?_
      obtain ⟨s19, es19, hf⟩ := pf_e hf
      refine c_ren es19 ?_
      refine x_aload_n C dX4_begin_25 3 rfl ?_
      refine x_iload_n C dX4_begin_26 2 rfl ?_
      refine x_aload_n C dX4_begin_27 1 rfl ?_
      refine cg3_20 C B t14 (fln B q334) fsm dX4_begin_28 ?_
      refine x_icmp_ge (tgt := 43) C dX4_begin_31 (by decide) (fun c20 => ?_) (fun c20 => ?_)
      · have hf := pf_t c20 hf
        refine x_iconst (-1 : Int32) C dX4_begin_43 (by decide) ?_
        exact w_X4_begin_44 n g _ C B hr dK hQ ih x0 x1 x2 p13 p13 (-1 : Int32) _ hf
      · have hf := pf_f c20 hf
        refine x_aload_n C dX4_begin_34 1 rfl ?_
        obtain ⟨p21, ep21, hf⟩ := pf_b hf
        refine cg3_7 C B t14 (fln B q293) fsm ep21 dX4_begin_35 ?_
        refine x_iload_n C dX4_begin_38 2 rfl ?_
        obtain ⟨t22, hf⟩ := pf_ch hf
        obtain ⟨h23, hf⟩ := pf_in hf
        refine ca_ild C B t22 h23 dX4_begin_39 ?_
        refine x_goto (tgt := 44) C dX4_begin_40 (by decide) ?_
        exact w_X4_begin_44 n g _ C B hr dK hQ ih x0 x1 x2 p13 p13 (hi s19 p21 (Int32.toNatClampNeg x2)) _ hf
def f_X4_begin (n : Nat) (g : CG) (x0 : Nat) (x1 : Nat) (d : CD) : Option CD := f_X4_begin_L2 n g n x0 x1 (0 : Int32) d
set_option maxHeartbeats 4000000 in
theorem w_X4_begin_E {K : KT} {T : CT} {τ : CD} (n : Nat) (g : CG) (C : Kok K cX4_begin 4 RX4) (B : CB K T) (hr : (kMe K).sig.returnType = none) (dK : kR K = rmC 3 0 0) (hQ : KQc K T none 0 0 g τ) (x0 : Nat) (x1 : Nat) (d : CD) (hf : f_X4_begin n g x0 x1 d = some τ) : XJ K 4 (Wc K T 0 0 g d) 0 [(0, .ref x0), (1, .ref x1)] [] := by
  unfold f_X4_begin at hf
  refine x_iconst (0 : Int32) C dX4_begin_0 (by decide) ?_
  refine x_istore_n (L' := [(0, .ref x0), (1, .ref x1), (2, .int (0 : Int32))]) C dX4_begin_1 (Nat.le_of_ble_eq_true rfl) [1, 2, 0] rfl ?_
  exact w_X4_begin_2 n g C B hr dK hQ n x0 x1 (0 : Int32) _ hf
theorem met_X4_begin {T : CT} {v : CD} {n : Nat} {g : CG} {d : CD} {x0 : Nat} {x1 : Nat} {l : Launch} (hf : f_X4_begin n g x0 x1 d = some v) : Met l yX4_begin (ws_ yX4_begin cX4_begin 4 none) (rmC 3 0 0) (va_Pc [.ref x0, .ref x1] (CU T g d)) (Qc T none g v) 0 0 (cA T) :=
  c_met [.ref x0, .ref x1] RX4 (by decide) rfl (Nat.le_of_ble_eq_true rfl) (fun K hl hR hr C B hQ => w_X4_begin_E _ _ C B hr hR hQ _ _ _ hf)
theorem k_X1_isIn_X6 {K : KT} {T : CT} {c0 s0 c1 s1 dk : Nat} {cc : ByteArray} {nL pc : Nat} {L : List (Nat × Value)} {rest : List Value} {g : CG} {d : CD} {v : Int32} {x0 : Int32} {x1 : Int32} {x2 : Int32} (C : Kok K cc nL RX6) (B : CB K T) (dK : kR K = rmC dk c1 s1) (hd : 2 + 1 ≤ dk) (hcs : c0 + 0 ≤ c1 ∧ s0 + 0 ≤ s1) (hf : f_X1_isIn x0 x1 x2 = v) (hW : (rest.map fun v => v.category).sum ≤ 8) (dd : decode cc pc = .ok (.invokestatic 32, 3)) (kk2 : XJ K nL (Wc K T c0 s0 g d) (pc + 3) L ((.int v) :: rest)) : XJ K nL (Wc K T c0 s0 g d) pc L (.int x2 :: .int x1 :: .int x0 :: rest) :=
  c_callSN (rest := rest) (v := (some (.int v))) [.int x0, .int x1, .int x2] 3 rfl C B dK hd (Nat.le_of_ble_eq_true rfl) hcs (lw_meth q790) q788 q789 q121 (by decide +kernel) (met_X1_isIn hf) rfl hW dd kk2
def f_X6_isDigit (x0 : Nat) (x1 : Int32) : Int32 := f_X1_isIn x1 (48 : Int32) (57 : Int32)
set_option maxHeartbeats 4000000 in
theorem w_X6_isDigit_E {K : KT} {T : CT} {r : Int32} {g : CG} {d : CD} (C : Kok K cX6_isDigit 2 RX6) (B : CB K T) (hr : (kMe K).sig.returnType = (some .boolean)) (dK : kR K = rmC 3 0 0) (hQ : KQc K T (some (.int r)) 0 0 g d) (x0 : Nat) (x1 : Int32) (hf : f_X6_isDigit x0 x1 = r) : XJ K 2 (Wc K T 0 0 g d) 0 [(0, .ref x0), (1, .int x1)] [] := by
  unfold f_X6_isDigit at hf
  refine x_iload_n C dX6_isDigit_0 1 rfl ?_
  refine x_bipush (48 : Int32) C dX6_isDigit_1 (by decide) ?_
  refine x_bipush (57 : Int32) C dX6_isDigit_3 (by decide) ?_
  refine k_X1_isIn_X6 C B dK (Nat.le_of_ble_eq_true rfl) cz rfl (Nat.le_of_ble_eq_true rfl) dX6_isDigit_5 ?_
  subst hf
  exact c_zret C hr (bz_X1_isIn_E rfl) hQ dX6_isDigit_8
theorem bz_X6_isDigit_E {r : Int32} {x0 : Nat} {x1 : Int32} (hf : f_X6_isDigit x0 x1 = r) : r = 0 ∨ r = 1 := by
  unfold f_X6_isDigit at hf
  subst hf
  exact (bz_X1_isIn_E rfl)
theorem met_X6_isDigit {T : CT} {v : Int32} {g : CG} {d : CD} {x0 : Nat} {x1 : Int32} {l : Launch} (hf : f_X6_isDigit x0 x1 = v) : Met l yX6_isDigit (ws_ yX6_isDigit cX6_isDigit 2 (some .boolean)) (rmC 3 0 0) (va_Pc [.ref x0, .int x1] (CU T g d)) (Qc T (some (.int v)) g d) 0 0 (cA T) :=
  c_met [.ref x0, .int x1] RX6 (by decide) rfl (Nat.le_of_ble_eq_true rfl) (fun K hl hR hr C B hQ => w_X6_isDigit_E C B hr hR hQ _ _ hf)
def f_X6_isLetter (x0 : Nat) (x1 : Int32) : Int32 := f_X1_isIn x1 (97 : Int32) (122 : Int32)
set_option maxHeartbeats 4000000 in
theorem w_X6_isLetter_E {K : KT} {T : CT} {r : Int32} {g : CG} {d : CD} (C : Kok K cX6_isLetter 2 RX6) (B : CB K T) (hr : (kMe K).sig.returnType = (some .boolean)) (dK : kR K = rmC 3 0 0) (hQ : KQc K T (some (.int r)) 0 0 g d) (x0 : Nat) (x1 : Int32) (hf : f_X6_isLetter x0 x1 = r) : XJ K 2 (Wc K T 0 0 g d) 0 [(0, .ref x0), (1, .int x1)] [] := by
  unfold f_X6_isLetter at hf
  refine x_iload_n C dX6_isLetter_0 1 rfl ?_
  refine x_bipush (97 : Int32) C dX6_isLetter_1 (by decide) ?_
  refine x_bipush (122 : Int32) C dX6_isLetter_3 (by decide) ?_
  refine k_X1_isIn_X6 C B dK (Nat.le_of_ble_eq_true rfl) cz rfl (Nat.le_of_ble_eq_true rfl) dX6_isLetter_5 ?_
  subst hf
  exact c_zret C hr (bz_X1_isIn_E rfl) hQ dX6_isLetter_8
theorem bz_X6_isLetter_E {r : Int32} {x0 : Nat} {x1 : Int32} (hf : f_X6_isLetter x0 x1 = r) : r = 0 ∨ r = 1 := by
  unfold f_X6_isLetter at hf
  subst hf
  exact (bz_X1_isIn_E rfl)
theorem met_X6_isLetter {T : CT} {v : Int32} {g : CG} {d : CD} {x0 : Nat} {x1 : Int32} {l : Launch} (hf : f_X6_isLetter x0 x1 = v) : Met l yX6_isLetter (ws_ yX6_isLetter cX6_isLetter 2 (some .boolean)) (rmC 3 0 0) (va_Pc [.ref x0, .int x1] (CU T g d)) (Qc T (some (.int v)) g d) 0 0 (cA T) :=
  c_met [.ref x0, .int x1] RX6 (by decide) rfl (Nat.le_of_ble_eq_true rfl) (fun K hl hR hr C B hQ => w_X6_isLetter_E C B hr hR hQ _ _ hf)
def f_X6_peek (g : CG) (d : CD) (x0 : Nat) : Option Int32 := if rdT (ht g x0) = true then (hr g x0 7).bind fun p2 => if ht g p2 = 1 then if (hi d p2 2) ≤ (hi d x0 1) then (some (-1 : Int32)) else ((hr g p2 0).bind fun p5 => if ht g p5 = 103 then if inb (hi d x0 1) (hn g p5) = true then some ((hi d p5 (Int32.toNatClampNeg (hi d x0 1))) &&& (255 : Int32)) else none else none) else none else none
set_option maxHeartbeats 4000000 in
theorem w_X6_peek_E {K : KT} {T : CT} {r : Int32} (g : CG) (d : CD) (C : Kok K cX6_peek 1 RX6) (B : CB K T) (hr : (kMe K).sig.returnType = (some .int)) (dK : kR K = rmC 2 0 0) (hQ : KQc K T (some (.int r)) 0 0 g d) (x0 : Nat) (hf : f_X6_peek g d x0 = some r) : XJ K 1 (Wc K T 0 0 g d) 0 [(0, .ref x0)] [] := by
  unfold f_X6_peek at hf
  refine x_aload_n C dX6_peek_0 0 rfl ?_
  obtain ⟨t1, hf⟩ := pf_ch hf
  refine cgR_1 C B t1 (flo C q492) fsm dX6_peek_1 ?_
  refine x_aload_n C dX6_peek_4 0 rfl ?_
  obtain ⟨p2, ep2, hf⟩ := pf_b hf
  refine cgR_7 C B t1 (flo C q508) fsm ep2 dX6_peek_5 ?_
  obtain ⟨t3, hf⟩ := pf_ch hf
  refine cg1_2 C B t3 (fln B q612) fsm dX6_peek_8 ?_
  refine x_icmp_ge (tgt := 33) C dX6_peek_11 (by decide) (fun c4 => ?_) (fun c4 => ?_)
  · have hf := pf_t c4 hf
    refine x_iconst (-1 : Int32) C dX6_peek_33 (by decide) ?_
    obtain rfl := Option.some.inj hf
    exact c_iret C hr hQ dX6_peek_34
  · have hf := pf_f c4 hf
    refine x_aload_n C dX6_peek_14 0 rfl ?_
    refine cgR_7 C B t1 (flo C q508) fsm ep2 dX6_peek_15 ?_
    obtain ⟨p5, ep5, hf⟩ := pf_b hf
    refine cg1_0 C B t3 (fln B q610) fsm ep5 dX6_peek_18 ?_
    refine x_aload_n C dX6_peek_21 0 rfl ?_
    refine cgR_1 C B t1 (flo C q492) fsm dX6_peek_22 ?_
    obtain ⟨t6, hf⟩ := pf_ch hf
    obtain ⟨h7, hf⟩ := pf_in hf
    refine ca_bld C B t6 h7 dX6_peek_25 ?_
    refine x_sipush (255 : Int32) C dX6_peek_26 (by decide) ?_
    refine x_iand C dX6_peek_29 ?_
    refine x_goto (tgt := 34) C dX6_peek_30 (by decide) ?_
    obtain rfl := Option.some.inj hf
    exact c_iret C hr hQ dX6_peek_34
theorem met_X6_peek {T : CT} {v : Int32} {g : CG} {d : CD} {x0 : Nat} {l : Launch} (hf : f_X6_peek g d x0 = some v) : Met l yX6_peek (ws_ yX6_peek cX6_peek 1 (some .int)) (rmC 2 0 0) (va_Pc [.ref x0] (CU T g d)) (Qc T (some (.int v)) g d) 0 0 (cA T) :=
  c_met [.ref x0] RX6 (by decide) rfl (Nat.le_of_ble_eq_true rfl) (fun K hl hR hr C B hQ => w_X6_peek_E _ _ C B hr hR hQ _ hf)
theorem k_X6_peek_X6 {K : KT} {T : CT} {c0 s0 c1 s1 dk : Nat} {cc : ByteArray} {nL pc : Nat} {L : List (Nat × Value)} {rest : List Value} {g : CG} {d : CD} {v : Int32} {x0 : Nat} (C : Kok K cc nL RX6) (B : CB K T) (hta : rdT (ht g x0) = true) (dK : kR K = rmC dk c1 s1) (hd : 2 + 1 ≤ dk) (hcs : c0 + 0 ≤ c1 ∧ s0 + 0 ≤ s1) (hf : f_X6_peek g d x0 = some v) (hW : (rest.map fun v => v.category).sum ≤ 8) (dd : decode cc pc = .ok (.invokevirtual 36, 3)) (kk2 : XJ K nL (Wc K T c0 s0 g d) (pc + 3) L ((.int v) :: rest)) : XJ K nL (Wc K T c0 s0 g d) pc L (.ref x0 :: rest) := by
  rcases rdT_or hta with e | e | e
  · exact c_callU (rest := rest) (v := (some (.int v))) (x := ⟨"StatueRent$Reader", "peek", "()I"⟩) (owner := "StatueRent$Reader") [] 0 rfl C B e (by decide) (by decide) rfl dK hd (Nat.le_of_ble_eq_true rfl) hcs q783 q780 q2514 (va_Nw.use rfl (B.2.1.1 _ (nw_r 0 rfl))) q782 q128 rfl (by decide +kernel) (met_X6_peek hf) rfl hW dd kk2
  · exact c_callU (rest := rest) (v := (some (.int v))) (x := ⟨"StatueRent$Reader", "peek", "()I"⟩) (owner := "StatueRent$Reader") [] 0 rfl C B e (by decide) (by decide) rfl dK hd (Nat.le_of_ble_eq_true rfl) hcs q783 q780 q2514 (va_Nw.use rfl (B.2.1.1 _ (nw_r 1 rfl))) q782 q128 rfl (by decide +kernel) (met_X6_peek hf) rfl hW dd kk2
  · exact c_callU (rest := rest) (v := (some (.int v))) (x := ⟨"StatueRent$Reader", "peek", "()I"⟩) (owner := "StatueRent$Reader") [] 0 rfl C B e (by decide) (by decide) rfl dK hd (Nat.le_of_ble_eq_true rfl) hcs q783 q780 q2514 (va_Nw.use rfl (B.2.1.1 _ (nw_r 2 rfl))) q782 q128 rfl (by decide +kernel) (met_X6_peek hf) rfl hW dd kk2
theorem k_X6_isLetter_X6 {K : KT} {T : CT} {c0 s0 c1 s1 dk : Nat} {cc : ByteArray} {nL pc : Nat} {L : List (Nat × Value)} {rest : List Value} {g : CG} {d : CD} {v : Int32} {x0 : Nat} {x1 : Int32} (C : Kok K cc nL RX6) (B : CB K T) (hta : rdT (ht g x0) = true) (dK : kR K = rmC dk c1 s1) (hd : 3 + 1 ≤ dk) (hcs : c0 + 0 ≤ c1 ∧ s0 + 0 ≤ s1) (hf : f_X6_isLetter x0 x1 = v) (hW : (rest.map fun v => v.category).sum ≤ 8) (dd : decode cc pc = .ok (.invokevirtual 46, 3)) (kk2 : XJ K nL (Wc K T c0 s0 g d) (pc + 3) L ((.int v) :: rest)) : XJ K nL (Wc K T c0 s0 g d) pc L (.int x1 :: .ref x0 :: rest) := by
  rcases rdT_or hta with e | e | e
  · exact c_callU (rest := rest) (v := (some (.int v))) (x := ⟨"StatueRent$Reader", "isLetter", "(I)Z"⟩) (owner := "StatueRent$Reader") [.int x1] 1 rfl C B e (by decide) (by decide) rfl dK hd (Nat.le_of_ble_eq_true rfl) hcs q787 q784 q2515 (va_Nw.use rfl (B.2.1.1 _ (nw_r 3 rfl))) q786 q128 rfl (by decide +kernel) (met_X6_isLetter hf) rfl hW dd kk2
  · exact c_callU (rest := rest) (v := (some (.int v))) (x := ⟨"StatueRent$Reader", "isLetter", "(I)Z"⟩) (owner := "StatueRent$Reader") [.int x1] 1 rfl C B e (by decide) (by decide) rfl dK hd (Nat.le_of_ble_eq_true rfl) hcs q787 q784 q2515 (va_Nw.use rfl (B.2.1.1 _ (nw_r 4 rfl))) q786 q128 rfl (by decide +kernel) (met_X6_isLetter hf) rfl hW dd kk2
  · exact c_callU (rest := rest) (v := (some (.int v))) (x := ⟨"StatueRent$Reader", "isLetter", "(I)Z"⟩) (owner := "StatueRent$Reader") [.int x1] 1 rfl C B e (by decide) (by decide) rfl dK hd (Nat.le_of_ble_eq_true rfl) hcs q787 q784 q2515 (va_Nw.use rfl (B.2.1.1 _ (nw_r 5 rfl))) q786 q128 rfl (by decide +kernel) (met_X6_isLetter hf) rfl hW dd kk2
theorem k_X6_isDigit_X6 {K : KT} {T : CT} {c0 s0 c1 s1 dk : Nat} {cc : ByteArray} {nL pc : Nat} {L : List (Nat × Value)} {rest : List Value} {g : CG} {d : CD} {v : Int32} {x0 : Nat} {x1 : Int32} (C : Kok K cc nL RX6) (B : CB K T) (hta : rdT (ht g x0) = true) (dK : kR K = rmC dk c1 s1) (hd : 3 + 1 ≤ dk) (hcs : c0 + 0 ≤ c1 ∧ s0 + 0 ≤ s1) (hf : f_X6_isDigit x0 x1 = v) (hW : (rest.map fun v => v.category).sum ≤ 8) (dd : decode cc pc = .ok (.invokevirtual 50, 3)) (kk2 : XJ K nL (Wc K T c0 s0 g d) (pc + 3) L ((.int v) :: rest)) : XJ K nL (Wc K T c0 s0 g d) pc L (.int x1 :: .ref x0 :: rest) := by
  rcases rdT_or hta with e | e | e
  · exact c_callU (rest := rest) (v := (some (.int v))) (x := ⟨"StatueRent$Reader", "isDigit", "(I)Z"⟩) (owner := "StatueRent$Reader") [.int x1] 1 rfl C B e (by decide) (by decide) rfl dK hd (Nat.le_of_ble_eq_true rfl) hcs q794 q791 q2516 (va_Nw.use rfl (B.2.1.1 _ (nw_r 6 rfl))) q793 q128 rfl (by decide +kernel) (met_X6_isDigit hf) rfl hW dd kk2
  · exact c_callU (rest := rest) (v := (some (.int v))) (x := ⟨"StatueRent$Reader", "isDigit", "(I)Z"⟩) (owner := "StatueRent$Reader") [.int x1] 1 rfl C B e (by decide) (by decide) rfl dK hd (Nat.le_of_ble_eq_true rfl) hcs q794 q791 q2516 (va_Nw.use rfl (B.2.1.1 _ (nw_r 7 rfl))) q793 q128 rfl (by decide +kernel) (met_X6_isDigit hf) rfl hW dd kk2
  · exact c_callU (rest := rest) (v := (some (.int v))) (x := ⟨"StatueRent$Reader", "isDigit", "(I)Z"⟩) (owner := "StatueRent$Reader") [.int x1] 1 rfl C B e (by decide) (by decide) rfl dK hd (Nat.le_of_ble_eq_true rfl) hcs q794 q791 q2516 (va_Nw.use rfl (B.2.1.1 _ (nw_r 8 rfl))) q793 q128 rfl (by decide +kernel) (met_X6_isDigit hf) rfl hW dd kk2
def f_X6_run_L87 (n : Nat) (g : CG) (k12 : Nat → Int32 → Int32 → CD → Option CD) (x0 : Nat) (x1 : Int32) (x2 : Int32) (d : CD) : Option CD := if rdT (ht g x0) = true then if (3 : Int32) ≤ ((hi d x0 1) - (hi d x0 2)) then (ev (wi d x0 1 ((hi d x0 1) + (1 : Int32))) fun s3 => k12 x0 x1 x2 s3) else ((f_X6_peek g d x0).bind fun r4 => ev (wi d x0 4 ((((10 : Int32) * (hi d x0 4)) + r4) - (48 : Int32))) fun s5 => ev (wi s5 x0 1 ((hi s5 x0 1) + (1 : Int32))) fun s6 => k12 x0 x1 x2 s6) else none
set_option maxHeartbeats 4000000 in
theorem w_X6_run_87 {K : KT} {T : CT} {τ : CD} (n : Nat) (g : CG) (k12 : Nat → Int32 → Int32 → CD → Option CD) (C : Kok K cX6_run 3 RX6) (B : CB K T) (hr : (kMe K).sig.returnType = none) (dK : kR K = rmC 4 0 0) (hQ : KQc K T none 0 0 g τ)  (hk12 : ∀ (x0 : Nat) (x1 : Int32) (x2 : Int32) (d : CD), k12 x0 x1 x2 d = some τ → XJ K 3 (Wc K T 0 0 g d) 12 [(0, .ref x0), (1, .int x1), (2, .int x2)] []) (x0 : Nat) (x1 : Int32) (x2 : Int32) (d : CD) (hf : f_X6_run_L87 n g k12 x0 x1 x2 d = some τ) : XJ K 3 (Wc K T 0 0 g d) 87 [(0, .ref x0), (1, .int x1), (2, .int x2)] [] := by
  unfold f_X6_run_L87 at hf
  refine x_aload_n C dX6_run_87 0 rfl ?_
  obtain ⟨t1, hf⟩ := pf_ch hf
  refine cgR_1 C B t1 (flo C q492) fsm dX6_run_88 ?_
  refine x_aload_n C dX6_run_91 0 rfl ?_
  refine cgR_2 C B t1 (flo C q493) fsm dX6_run_92 ?_
  refine x_isub C dX6_run_95 ?_
  refine x_iconst (3 : Int32) C dX6_run_96 (by decide) ?_
  refine x_icmp_ge (tgt := 119) C dX6_run_97 (by decide) (fun c2 => ?_) (fun c2 => ?_)
  · have hf := pf_t c2 hf
    refine x_aload_n C dX6_run_119 0 rfl ?_
    refine x_dup C dX6_run_120 rfl ?_
    refine cgR_1 C B t1 (flo C q492) fsm dX6_run_121 ?_
    refine x_iconst (1 : Int32) C dX6_run_124 (by decide) ?_
    refine x_iadd C dX6_run_125 ?_
    refine cpR_1 C B t1 (flo C q492) fsm dX6_run_126 ?_
    obtain ⟨s3, es3, hf⟩ := pf_e hf
    refine c_ren es3 ?_
    refine x_goto (tgt := 12) C dX6_run_129 (by decide) ?_
    exact hk12 x0 x1 x2 _ hf
  · have hf := pf_f c2 hf
    refine x_aload_n C dX6_run_100 0 rfl ?_
    refine x_bipush (10 : Int32) C dX6_run_101 (by decide) ?_
    refine x_aload_n C dX6_run_103 0 rfl ?_
    refine cgR_4 C B t1 (flo C q503) fsm dX6_run_104 ?_
    refine x_imul C dX6_run_107 ?_
    refine x_aload_n C dX6_run_108 0 rfl ?_
    obtain ⟨r4, er4, hf⟩ := pf_b hf
    refine k_X6_peek_X6 C B t1 dK (Nat.le_of_ble_eq_true rfl) cz er4 (Nat.le_of_ble_eq_true rfl) dX6_run_109 ?_
    refine x_iadd C dX6_run_112 ?_
    refine x_bipush (48 : Int32) C dX6_run_113 (by decide) ?_
    refine x_isub C dX6_run_115 ?_
    refine cpR_4 C B t1 (flo C q503) fsm dX6_run_116 ?_
    obtain ⟨s5, es5, hf⟩ := pf_e hf
    refine c_ren es5 ?_
    refine x_aload_n C dX6_run_119 0 rfl ?_
    refine x_dup C dX6_run_120 rfl ?_
    refine cgR_1 C B t1 (flo C q492) fsm dX6_run_121 ?_
    refine x_iconst (1 : Int32) C dX6_run_124 (by decide) ?_
    refine x_iadd C dX6_run_125 ?_
    refine cpR_1 C B t1 (flo C q492) fsm dX6_run_126 ?_
    obtain ⟨s6, es6, hf⟩ := pf_e hf
    refine c_ren es6 ?_
    refine x_goto (tgt := 12) C dX6_run_129 (by decide) ?_
    exact hk12 x0 x1 x2 _ hf
def f_X6_run_L55 (n : Nat) (g : CG) (k12 : Nat → Int32 → Int32 → CD → Option CD) (x0 : Nat) (x1 : Int32) (y0 : Int32) (d : CD) : Option CD := if rdT (ht g x0) = true then if (7 : Int32) ≤ ((hi d x0 1) - (hi d x0 2)) then (f_X6_run_L87 n g k12 x0 x1 y0 d) else ((f_X6_peek g d x0).bind fun r3 => ev (wl d x0 6 ((j_lshl (hl d x0 6) (8 : Int32)) ||| (Int32.toInt64 r3))) fun s4 => f_X6_run_L87 n g k12 x0 x1 y0 s4) else none
set_option maxHeartbeats 4000000 in
theorem w_X6_run_55 {K : KT} {T : CT} {τ : CD} (n : Nat) (g : CG) (k12 : Nat → Int32 → Int32 → CD → Option CD) (C : Kok K cX6_run 3 RX6) (B : CB K T) (hr : (kMe K).sig.returnType = none) (dK : kR K = rmC 4 0 0) (hQ : KQc K T none 0 0 g τ)  (hk12 : ∀ (x0 : Nat) (x1 : Int32) (x2 : Int32) (d : CD), k12 x0 x1 x2 d = some τ → XJ K 3 (Wc K T 0 0 g d) 12 [(0, .ref x0), (1, .int x1), (2, .int x2)] []) (x0 : Nat) (x1 : Int32) (y0 : Int32) (d : CD) (hf : f_X6_run_L55 n g k12 x0 x1 y0 d = some τ) : XJ K 3 (Wc K T 0 0 g d) 55 [(0, .ref x0), (1, .int x1)] [.int y0] := by
  unfold f_X6_run_L55 at hf
  refine x_istore_n (L' := [(0, .ref x0), (1, .int x1), (2, .int y0)]) C dX6_run_55 (Nat.le_of_ble_eq_true rfl) [1, 2, 0] rfl ?_
  refine x_aload_n C dX6_run_56 0 rfl ?_
  obtain ⟨t1, hf⟩ := pf_ch hf
  refine cgR_1 C B t1 (flo C q492) fsm dX6_run_57 ?_
  refine x_aload_n C dX6_run_60 0 rfl ?_
  refine cgR_2 C B t1 (flo C q493) fsm dX6_run_61 ?_
  refine x_isub C dX6_run_64 ?_
  refine x_bipush (7 : Int32) C dX6_run_65 (by decide) ?_
  refine x_icmp_ge (tgt := 87) C dX6_run_67 (by decide) (fun c2 => ?_) (fun c2 => ?_)
  · have hf := pf_t c2 hf
    exact w_X6_run_87 n g _ C B hr dK hQ hk12 x0 x1 y0 _ hf
  · have hf := pf_f c2 hf
    refine x_aload_n C dX6_run_70 0 rfl ?_
    refine x_aload_n C dX6_run_71 0 rfl ?_
    refine cgR_6 C B t1 (flo C q507) fsm dX6_run_72 ?_
    refine x_bipush (8 : Int32) C dX6_run_75 (by decide) ?_
    refine x_lshl C dX6_run_77 ?_
    refine x_aload_n C dX6_run_78 0 rfl ?_
    obtain ⟨r3, er3, hf⟩ := pf_b hf
    refine k_X6_peek_X6 C B t1 dK (Nat.le_of_ble_eq_true rfl) cz er3 (Nat.le_of_ble_eq_true rfl) dX6_run_79 ?_
    refine x_i2l C dX6_run_82 ?_
    refine x_lor C dX6_run_83 ?_
    refine cpR_6 C B t1 (flo C q507) fsm dX6_run_84 ?_
    obtain ⟨s4, es4, hf⟩ := pf_e hf
    refine c_ren es4 ?_
    exact w_X6_run_87 n g _ C B hr dK hQ hk12 x0 x1 y0 _ hf
def f_X6_run_L34 (n : Nat) (g : CG) (k12 : Nat → Int32 → Int32 → CD → Option CD) (x0 : Nat) (x1 : Int32) (x2 : Int32) (d : CD) : Option CD := if x2 = 0 then (f_X6_run_L55 n g k12 x0 x1 (0 : Int32) d) else (if rdT (ht g x0) = true then (f_X6_peek g d x0).bind fun r3 => if (f_X6_isLetter x0 r3) = x1 then (f_X6_run_L55 n g k12 x0 x1 (1 : Int32) d) else (f_X6_run_L55 n g k12 x0 x1 (0 : Int32) d) else none)
set_option maxHeartbeats 4000000 in
theorem w_X6_run_34 {K : KT} {T : CT} {τ : CD} (n : Nat) (g : CG) (k12 : Nat → Int32 → Int32 → CD → Option CD) (C : Kok K cX6_run 3 RX6) (B : CB K T) (hr : (kMe K).sig.returnType = none) (dK : kR K = rmC 4 0 0) (hQ : KQc K T none 0 0 g τ)  (hk12 : ∀ (x0 : Nat) (x1 : Int32) (x2 : Int32) (d : CD), k12 x0 x1 x2 d = some τ → XJ K 3 (Wc K T 0 0 g d) 12 [(0, .ref x0), (1, .int x1), (2, .int x2)] []) (x0 : Nat) (x1 : Int32) (x2 : Int32) (d : CD) (hf : f_X6_run_L34 n g k12 x0 x1 x2 d = some τ) : XJ K 3 (Wc K T 0 0 g d) 34 [(0, .ref x0), (1, .int x1), (2, .int x2)] [] := by
  unfold f_X6_run_L34 at hf
  refine x_iload_n C dX6_run_34 2 rfl ?_
  refine x_if_eq (tgt := 54) C dX6_run_35 (by decide) (fun c1 => ?_) (fun c1 => ?_)
  · have hf := pf_t c1 hf
    refine x_iconst (0 : Int32) C dX6_run_54 (by decide) ?_
    refine x_sub [0, 1] (L' := [(0, .ref x0), (1, .int x1)]) rfl ?_
    exact w_X6_run_55 n g _ C B hr dK hQ hk12 x0 x1 (0 : Int32) _ hf
  · have hf := pf_f c1 hf
    refine x_aload_n C dX6_run_38 0 rfl ?_
    refine x_aload_n C dX6_run_39 0 rfl ?_
    obtain ⟨t2, hf⟩ := pf_ch hf
    obtain ⟨r3, er3, hf⟩ := pf_b hf
    refine k_X6_peek_X6 C B t2 dK (Nat.le_of_ble_eq_true rfl) cz er3 (Nat.le_of_ble_eq_true rfl) dX6_run_40 ?_
    refine k_X6_isLetter_X6 C B t2 dK (Nat.le_of_ble_eq_true rfl) cz rfl (Nat.le_of_ble_eq_true rfl) dX6_run_43 ?_
    refine x_iload_n C dX6_run_46 1 rfl ?_
    refine x_icmp_ne (tgt := 54) C dX6_run_47 (by decide) (fun c4 => ?_) (fun c4 => ?_)
    · have hf := pf_f c4 hf
      refine x_iconst (0 : Int32) C dX6_run_54 (by decide) ?_
      refine x_sub [0, 1] (L' := [(0, .ref x0), (1, .int x1)]) rfl ?_
      exact w_X6_run_55 n g _ C B hr dK hQ hk12 x0 x1 (0 : Int32) _ hf
    · have hf := pf_t c4 hf
      refine x_iconst (1 : Int32) C dX6_run_50 (by decide) ?_
      refine x_goto (tgt := 55) C dX6_run_51 (by decide) ?_
      refine x_sub [0, 1] (L' := [(0, .ref x0), (1, .int x1)]) rfl ?_
      exact w_X6_run_55 n g _ C B hr dK hQ hk12 x0 x1 (1 : Int32) _ hf
def f_X6_run_L12 (n : Nat) (g : CG) : Nat → Nat → Int32 → Int32 → CD → Option CD
  | 0, _, _, _, _ => none
  | m + 1, x0, x1, x2, d => if rdT (ht g x0) = true then (f_X6_peek g d x0).bind fun r2 => if (f_X6_isLetter x0 r2) = 0 then ((f_X6_peek g d x0).bind fun r4 => if (f_X6_isDigit x0 r4) = 0 then (ev (wi d x0 5 ((hi d x0 1) - (hi d x0 2))) fun s6 => if x2 = 0 then (ev (wi s6 x0 3 (4 : Int32)) fun s8 => some s8) else (if x1 = 0 then (if (hi s6 x0 5) ≤ (3 : Int32) then (if x1 = 0 then (ev (wi s6 x0 3 (2 : Int32)) fun s12 => some s12) else (ev (wi s6 x0 3 (1 : Int32)) fun s13 => some s13)) else (ev (wi s6 x0 3 (4 : Int32)) fun s14 => some s14)) else (if (hi s6 x0 5) ≤ (7 : Int32) then (if x1 = 0 then (ev (wi s6 x0 3 (2 : Int32)) fun s17 => some s17) else (ev (wi s6 x0 3 (1 : Int32)) fun s18 => some s18)) else (ev (wi s6 x0 3 (4 : Int32)) fun s19 => some s19)))) else (f_X6_run_L34 n g (f_X6_run_L12 n g m) x0 x1 x2 d)) else (f_X6_run_L34 n g (f_X6_run_L12 n g m) x0 x1 x2 d) else none
set_option maxHeartbeats 4000000 in
theorem w_X6_run_12 {K : KT} {T : CT} {τ : CD} (n : Nat) (g : CG) (C : Kok K cX6_run 3 RX6) (B : CB K T) (hr : (kMe K).sig.returnType = none) (dK : kR K = rmC 4 0 0) (hQ : KQc K T none 0 0 g τ) : ∀ (m : Nat) (x0 : Nat) (x1 : Int32) (x2 : Int32) (d : CD) (hf : f_X6_run_L12 n g m x0 x1 x2 d = some τ), XJ K 3 (Wc K T 0 0 g d) 12 [(0, .ref x0), (1, .int x1), (2, .int x2)] [] := by
  intro m
  induction m with
  | zero => intro x0 x1 x2 d hf; cases hf
  | succ m ih =>
    intro x0 x1 x2 d hf
    rw [f_X6_run_L12] at hf
    refine x_aload_n C dX6_run_12 0 rfl ?_
    refine x_aload_n C dX6_run_13 0 rfl ?_
    obtain ⟨t1, hf⟩ := pf_ch hf
    obtain ⟨r2, er2, hf⟩ := pf_b hf
    refine k_X6_peek_X6 C B t1 dK (Nat.le_of_ble_eq_true rfl) cz er2 (Nat.le_of_ble_eq_true rfl) dX6_run_14 ?_
    refine k_X6_isLetter_X6 C B t1 dK (Nat.le_of_ble_eq_true rfl) cz rfl (Nat.le_of_ble_eq_true rfl) dX6_run_17 ?_
    refine x_if_ne (tgt := 34) C dX6_run_20 (by decide) (fun c3 => ?_) (fun c3 => ?_)
    · have hf := pf_f c3 hf
      exact w_X6_run_34 n g _ C B hr dK hQ ih x0 x1 x2 _ hf
    · have hf := pf_t c3 hf
      refine x_aload_n C dX6_run_23 0 rfl ?_
      refine x_aload_n C dX6_run_24 0 rfl ?_
      obtain ⟨r4, er4, hf⟩ := pf_b hf
      refine k_X6_peek_X6 C B t1 dK (Nat.le_of_ble_eq_true rfl) cz er4 (Nat.le_of_ble_eq_true rfl) dX6_run_25 ?_
      refine k_X6_isDigit_X6 C B t1 dK (Nat.le_of_ble_eq_true rfl) cz rfl (Nat.le_of_ble_eq_true rfl) dX6_run_28 ?_
      refine x_if_eq (tgt := 132) C dX6_run_31 (by decide) (fun c5 => ?_) (fun c5 => ?_)
      · have hf := pf_t c5 hf
        refine x_aload_n C dX6_run_132 0 rfl ?_
        refine x_aload_n C dX6_run_133 0 rfl ?_
        refine cgR_1 C B t1 (flo C q492) fsm dX6_run_134 ?_
        refine x_aload_n C dX6_run_137 0 rfl ?_
        refine cgR_2 C B t1 (flo C q493) fsm dX6_run_138 ?_
        refine x_isub C dX6_run_141 ?_
        refine cpR_5 C B t1 (flo C q504) fsm dX6_run_142 ?_
        obtain ⟨s6, es6, hf⟩ := pf_e hf
        refine c_ren es6 ?_
        refine x_aload_n C dX6_run_145 0 rfl ?_
        refine x_iload_n C dX6_run_146 2 rfl ?_
        refine x_if_eq (tgt := 167) C dX6_run_147 (by decide) (fun c7 => ?_) (fun c7 => ?_)
        · have hf := pf_t c7 hf
          refine x_iconst (4 : Int32) C dX6_run_167 (by decide) ?_
          refine x_goto (tgt := 180) C dX6_run_168 (by decide) ?_
          refine cpR_3 C B t1 (flo C q500) fsm dX6_run_180 ?_
          obtain ⟨s8, es8, hf⟩ := pf_e hf
          refine c_ren es8 ?_
          obtain rfl := Option.some.inj hf
          exact c_vret C hr hQ dX6_run_183
        · have hf := pf_f c7 hf
          refine x_aload_n C dX6_run_150 0 rfl ?_
          refine cgR_5 C B t1 (flo C q504) fsm dX6_run_151 ?_
          refine x_iload_n C dX6_run_154 1 rfl ?_
          refine x_if_eq (tgt := 163) C dX6_run_155 (by decide) (fun c9 => ?_) (fun c9 => ?_)
          · have hf := pf_t c9 hf
            refine x_iconst (3 : Int32) C dX6_run_163 (by decide) ?_
            refine x_icmp_le (tgt := 171) C dX6_run_164 (by decide) (fun c10 => ?_) (fun c10 => ?_)
            · have hf := pf_t c10 hf
              refine x_iload_n C dX6_run_171 1 rfl ?_
              refine x_if_eq (tgt := 179) C dX6_run_172 (by decide) (fun c11 => ?_) (fun c11 => ?_)
              · have hf := pf_t c11 hf
                refine x_iconst (2 : Int32) C dX6_run_179 (by decide) ?_
                refine cpR_3 C B t1 (flo C q500) fsm dX6_run_180 ?_
                obtain ⟨s12, es12, hf⟩ := pf_e hf
                refine c_ren es12 ?_
                obtain rfl := Option.some.inj hf
                exact c_vret C hr hQ dX6_run_183
              · have hf := pf_f c11 hf
                refine x_iconst (1 : Int32) C dX6_run_175 (by decide) ?_
                refine x_goto (tgt := 180) C dX6_run_176 (by decide) ?_
                refine cpR_3 C B t1 (flo C q500) fsm dX6_run_180 ?_
                obtain ⟨s13, es13, hf⟩ := pf_e hf
                refine c_ren es13 ?_
                obtain rfl := Option.some.inj hf
                exact c_vret C hr hQ dX6_run_183
            · have hf := pf_f c10 hf
              refine x_iconst (4 : Int32) C dX6_run_167 (by decide) ?_
              refine x_goto (tgt := 180) C dX6_run_168 (by decide) ?_
              refine cpR_3 C B t1 (flo C q500) fsm dX6_run_180 ?_
              obtain ⟨s14, es14, hf⟩ := pf_e hf
              refine c_ren es14 ?_
              obtain rfl := Option.some.inj hf
              exact c_vret C hr hQ dX6_run_183
          · have hf := pf_f c9 hf
            refine x_bipush (7 : Int32) C dX6_run_158 (by decide) ?_
            refine x_goto (tgt := 164) C dX6_run_160 (by decide) ?_
            refine x_icmp_le (tgt := 171) C dX6_run_164 (by decide) (fun c15 => ?_) (fun c15 => ?_)
            · have hf := pf_t c15 hf
              refine x_iload_n C dX6_run_171 1 rfl ?_
              refine x_if_eq (tgt := 179) C dX6_run_172 (by decide) (fun c16 => ?_) (fun c16 => ?_)
              · have hf := pf_t c16 hf
                refine x_iconst (2 : Int32) C dX6_run_179 (by decide) ?_
                refine cpR_3 C B t1 (flo C q500) fsm dX6_run_180 ?_
                obtain ⟨s17, es17, hf⟩ := pf_e hf
                refine c_ren es17 ?_
                obtain rfl := Option.some.inj hf
                exact c_vret C hr hQ dX6_run_183
              · have hf := pf_f c16 hf
                refine x_iconst (1 : Int32) C dX6_run_175 (by decide) ?_
                refine x_goto (tgt := 180) C dX6_run_176 (by decide) ?_
                refine cpR_3 C B t1 (flo C q500) fsm dX6_run_180 ?_
                obtain ⟨s18, es18, hf⟩ := pf_e hf
                refine c_ren es18 ?_
                obtain rfl := Option.some.inj hf
                exact c_vret C hr hQ dX6_run_183
            · have hf := pf_f c15 hf
              refine x_iconst (4 : Int32) C dX6_run_167 (by decide) ?_
              refine x_goto (tgt := 180) C dX6_run_168 (by decide) ?_
              refine cpR_3 C B t1 (flo C q500) fsm dX6_run_180 ?_
              obtain ⟨s19, es19, hf⟩ := pf_e hf
              refine c_ren es19 ?_
              obtain rfl := Option.some.inj hf
              exact c_vret C hr hQ dX6_run_183
      · have hf := pf_f c5 hf
        exact w_X6_run_34 n g _ C B hr dK hQ ih x0 x1 x2 _ hf
def f_X6_run (n : Nat) (g : CG) (x0 : Nat) (x1 : Int32) (d : CD) : Option CD := if rdT (ht g x0) = true then ev (wi d x0 4 (0 : Int32)) fun s2 => ev (wl s2 x0 6 (0 : Int64)) fun s3 => f_X6_run_L12 n g n x0 x1 (1 : Int32) s3 else none
set_option maxHeartbeats 4000000 in
theorem w_X6_run_E {K : KT} {T : CT} {τ : CD} (n : Nat) (g : CG) (C : Kok K cX6_run 3 RX6) (B : CB K T) (hr : (kMe K).sig.returnType = none) (dK : kR K = rmC 4 0 0) (hQ : KQc K T none 0 0 g τ) (x0 : Nat) (x1 : Int32) (d : CD) (hf : f_X6_run n g x0 x1 d = some τ) : XJ K 3 (Wc K T 0 0 g d) 0 [(0, .ref x0), (1, .int x1)] [] := by
  unfold f_X6_run at hf
  refine x_iconst (1 : Int32) C dX6_run_0 (by decide) ?_
  refine x_istore_n (L' := [(0, .ref x0), (1, .int x1), (2, .int (1 : Int32))]) C dX6_run_1 (Nat.le_of_ble_eq_true rfl) [1, 2, 0] rfl ?_
  refine x_aload_n C dX6_run_2 0 rfl ?_
  refine x_iconst (0 : Int32) C dX6_run_3 (by decide) ?_
  obtain ⟨t1, hf⟩ := pf_ch hf
  refine cpR_4 C B t1 (flo C q503) fsm dX6_run_4 ?_
  obtain ⟨s2, es2, hf⟩ := pf_e hf
  refine c_ren es2 ?_
  refine x_aload_n C dX6_run_7 0 rfl ?_
  refine x_lconst (0 : Int64) C dX6_run_8 (by decide) ?_
  refine cpR_6 C B t1 (flo C q507) fsm dX6_run_9 ?_
  obtain ⟨s3, es3, hf⟩ := pf_e hf
  refine c_ren es3 ?_
  exact w_X6_run_12 n g C B hr dK hQ n x0 x1 (1 : Int32) _ hf
theorem met_X6_run {T : CT} {v : CD} {n : Nat} {g : CG} {d : CD} {x0 : Nat} {x1 : Int32} {l : Launch} (hf : f_X6_run n g x0 x1 d = some v) : Met l yX6_run (ws_ yX6_run cX6_run 3 none) (rmC 4 0 0) (va_Pc [.ref x0, .int x1] (CU T g d)) (Qc T none g v) 0 0 (cA T) :=
  c_met [.ref x0, .int x1] RX6 (by decide) rfl (Nat.le_of_ble_eq_true rfl) (fun K hl hR hr C B hQ => w_X6_run_E _ _ C B hr hR hQ _ _ _ hf)
theorem k_X6_run_X6 {K : KT} {T : CT} {c0 s0 c1 s1 dk : Nat} {cc : ByteArray} {nL pc : Nat} {L : List (Nat × Value)} {rest : List Value} {g : CG} {d : CD} {v : CD} {n : Nat} {x0 : Nat} {x1 : Int32} (C : Kok K cc nL RX6) (B : CB K T) (hta : rdT (ht g x0) = true) (dK : kR K = rmC dk c1 s1) (hd : 4 + 1 ≤ dk) (hcs : c0 + 0 ≤ c1 ∧ s0 + 0 ≤ s1) (hf : f_X6_run n g x0 x1 d = some v) (hW : (rest.map fun v => v.category).sum ≤ 8) (dd : decode cc pc = .ok (.invokevirtual 53, 3)) (kk2 : XJ K nL (Wc K T c0 s0 g v) (pc + 3) L (rest)) : XJ K nL (Wc K T c0 s0 g d) pc L (.int x1 :: .ref x0 :: rest) := by
  rcases rdT_or hta with e | e | e
  · exact c_callU (rest := rest) (v := none) (x := ⟨"StatueRent$Reader", "run", "(Z)V"⟩) (owner := "StatueRent$Reader") [.int x1] 1 rfl C B e (by decide) (by decide) rfl dK hd (Nat.le_of_ble_eq_true rfl) hcs q798 q795 q2517 (va_Nw.use rfl (B.2.1.1 _ (nw_r 9 rfl))) q797 q128 rfl (by decide +kernel) (met_X6_run hf) rfl hW dd kk2
  · exact c_callU (rest := rest) (v := none) (x := ⟨"StatueRent$Reader", "run", "(Z)V"⟩) (owner := "StatueRent$Reader") [.int x1] 1 rfl C B e (by decide) (by decide) rfl dK hd (Nat.le_of_ble_eq_true rfl) hcs q798 q795 q2517 (va_Nw.use rfl (B.2.1.1 _ (nw_r 10 rfl))) q797 q128 rfl (by decide +kernel) (met_X6_run hf) rfl hW dd kk2
  · exact c_callU (rest := rest) (v := none) (x := ⟨"StatueRent$Reader", "run", "(Z)V"⟩) (owner := "StatueRent$Reader") [.int x1] 1 rfl C B e (by decide) (by decide) rfl dK hd (Nat.le_of_ble_eq_true rfl) hcs q798 q795 q2517 (va_Nw.use rfl (B.2.1.1 _ (nw_r 11 rfl))) q797 q128 rfl (by decide +kernel) (met_X6_run hf) rfl hW dd kk2
def f_X6_next_L158 (n : Nat) (g : CG) (x0 : Nat) (x1 : Int32) (y0 : Nat) (y1 : Int32) (d : CD) : Option CD := if rdT (ht g y0) = true then ev (wi d y0 3 y1) fun s2 => if rdT (ht g x0) = true then ev (wi s2 x0 4 x1) fun s4 => ev (wi s4 x0 1 ((hi s4 x0 1) + (1 : Int32))) fun s5 => some s5 else none else none
set_option maxHeartbeats 4000000 in
theorem w_X6_next_158 {K : KT} {T : CT} {τ : CD} (n : Nat) (g : CG) (C : Kok K cX6_next 2 RX6) (B : CB K T) (hr : (kMe K).sig.returnType = none) (dK : kR K = rmC 5 0 0) (hQ : KQc K T none 0 0 g τ) (x0 : Nat) (x1 : Int32) (y0 : Nat) (y1 : Int32) (d : CD) (hf : f_X6_next_L158 n g x0 x1 y0 y1 d = some τ) : XJ K 2 (Wc K T 0 0 g d) 158 [(0, .ref x0), (1, .int x1)] [.int y1, .ref y0] := by
  unfold f_X6_next_L158 at hf
  obtain ⟨t1, hf⟩ := pf_ch hf
  refine cpR_3 C B t1 (flo C q500) fsm dX6_next_158 ?_
  obtain ⟨s2, es2, hf⟩ := pf_e hf
  refine c_ren es2 ?_
  refine x_aload_n C dX6_next_161 0 rfl ?_
  refine x_iload_n C dX6_next_162 1 rfl ?_
  obtain ⟨t3, hf⟩ := pf_ch hf
  refine cpR_4 C B t3 (flo C q503) fsm dX6_next_163 ?_
  obtain ⟨s4, es4, hf⟩ := pf_e hf
  refine c_ren es4 ?_
  refine x_aload_n C dX6_next_166 0 rfl ?_
  refine x_dup C dX6_next_167 rfl ?_
  refine cgR_1 C B t3 (flo C q492) fsm dX6_next_168 ?_
  refine x_iconst (1 : Int32) C dX6_next_171 (by decide) ?_
  refine x_iadd C dX6_next_172 ?_
  refine cpR_1 C B t3 (flo C q492) fsm dX6_next_173 ?_
  obtain ⟨s5, es5, hf⟩ := pf_e hf
  refine c_ren es5 ?_
  obtain rfl := Option.some.inj hf
  exact c_vret C hr hQ dX6_next_176
def f_X6_next_L78 (n : Nat) (g : CG) (x0 : Nat) (d : CD) : Option CD := if rdT (ht g x0) = true then (f_X6_peek g d x0).bind fun r2 => if 0 ≤ r2 then (if (f_X6_isLetter x0 r2) = 0 then (if (f_X6_isDigit x0 r2) = 0 then (if r2 = (59 : Int32) then (f_X6_next_L158 n g x0 r2 x0 (3 : Int32) d) else (if r2 = (40 : Int32) then (f_X6_next_L158 n g x0 r2 x0 (3 : Int32) d) else (if r2 = (41 : Int32) then (f_X6_next_L158 n g x0 r2 x0 (3 : Int32) d) else (if (f_X1_isIn r2 (60 : Int32) (62 : Int32)) = 0 then (f_X6_next_L158 n g x0 r2 x0 (4 : Int32) d) else (f_X6_next_L158 n g x0 r2 x0 (3 : Int32) d))))) else ((f_X6_run n g x0 (f_X6_isLetter x0 r2) d).bind fun r11 => some r11)) else ((f_X6_run n g x0 (f_X6_isLetter x0 r2) d).bind fun r5 => some r5)) else (ev (wi d x0 3 (0 : Int32)) fun s12 => some s12) else none
set_option maxHeartbeats 4000000 in
theorem w_X6_next_78 {K : KT} {T : CT} {τ : CD} (n : Nat) (g : CG) (C : Kok K cX6_next 2 RX6) (B : CB K T) (hr : (kMe K).sig.returnType = none) (dK : kR K = rmC 5 0 0) (hQ : KQc K T none 0 0 g τ) (x0 : Nat) (d : CD) (hf : f_X6_next_L78 n g x0 d = some τ) : XJ K 2 (Wc K T 0 0 g d) 78 [(0, .ref x0)] [] := by
  unfold f_X6_next_L78 at hf
  refine x_aload_n C dX6_next_78 0 rfl ?_
  obtain ⟨t1, hf⟩ := pf_ch hf
  obtain ⟨r2, er2, hf⟩ := pf_b hf
  refine k_X6_peek_X6 C B t1 dK (Nat.le_of_ble_eq_true rfl) cz er2 (Nat.le_of_ble_eq_true rfl) dX6_next_79 ?_
  refine x_istore_n (L' := [(0, .ref x0), (1, .int r2)]) C dX6_next_82 (Nat.le_of_ble_eq_true rfl) [1, 0] rfl ?_
  refine x_iload_n C dX6_next_83 1 rfl ?_
  refine x_if_ge (tgt := 95) C dX6_next_84 (by decide) (fun c3 => ?_) (fun c3 => ?_)
  · have hf := pf_t c3 hf
    refine x_aload_n C dX6_next_95 0 rfl ?_
    refine x_iload_n C dX6_next_96 1 rfl ?_
    refine k_X6_isLetter_X6 C B t1 dK (Nat.le_of_ble_eq_true rfl) cz rfl (Nat.le_of_ble_eq_true rfl) dX6_next_97 ?_
    refine x_if_ne (tgt := 111) C dX6_next_100 (by decide) (fun c4 => ?_) (fun c4 => ?_)
    · have hf := pf_f c4 hf
      refine x_aload_n C dX6_next_111 0 rfl ?_
      refine x_aload_n C dX6_next_112 0 rfl ?_
      refine x_iload_n C dX6_next_113 1 rfl ?_
      refine k_X6_isLetter_X6 C B t1 dK (Nat.le_of_ble_eq_true rfl) cz rfl (Nat.le_of_ble_eq_true rfl) dX6_next_114 ?_
      obtain ⟨r5, er5, hf⟩ := pf_b hf
      refine k_X6_run_X6 C B t1 dK (Nat.le_of_ble_eq_true rfl) cz er5 (Nat.le_of_ble_eq_true rfl) dX6_next_117 ?_
      refine x_goto (tgt := 176) C dX6_next_120 (by decide) ?_
      obtain rfl := Option.some.inj hf
      exact c_vret C hr hQ dX6_next_176
    · have hf := pf_t c4 hf
      refine x_aload_n C dX6_next_103 0 rfl ?_
      refine x_iload_n C dX6_next_104 1 rfl ?_
      refine k_X6_isDigit_X6 C B t1 dK (Nat.le_of_ble_eq_true rfl) cz rfl (Nat.le_of_ble_eq_true rfl) dX6_next_105 ?_
      refine x_if_eq (tgt := 123) C dX6_next_108 (by decide) (fun c6 => ?_) (fun c6 => ?_)
      · have hf := pf_t c6 hf
        refine x_aload_n C dX6_next_123 0 rfl ?_
        refine x_iload_n C dX6_next_124 1 rfl ?_
        refine x_bipush (59 : Int32) C dX6_next_125 (by decide) ?_
        refine x_icmp_eq (tgt := 153) C dX6_next_127 (by decide) (fun c7 => ?_) (fun c7 => ?_)
        · have hf := pf_t c7 hf
          refine x_iconst (3 : Int32) C dX6_next_153 (by decide) ?_
          refine x_goto (tgt := 158) C dX6_next_154 (by decide) ?_
          exact w_X6_next_158 n g C B hr dK hQ x0 r2 x0 (3 : Int32) _ hf
        · have hf := pf_f c7 hf
          refine x_iload_n C dX6_next_130 1 rfl ?_
          refine x_bipush (40 : Int32) C dX6_next_131 (by decide) ?_
          refine x_icmp_eq (tgt := 153) C dX6_next_133 (by decide) (fun c8 => ?_) (fun c8 => ?_)
          · have hf := pf_t c8 hf
            refine x_iconst (3 : Int32) C dX6_next_153 (by decide) ?_
            refine x_goto (tgt := 158) C dX6_next_154 (by decide) ?_
            exact w_X6_next_158 n g C B hr dK hQ x0 r2 x0 (3 : Int32) _ hf
          · have hf := pf_f c8 hf
            refine x_iload_n C dX6_next_136 1 rfl ?_
            refine x_bipush (41 : Int32) C dX6_next_137 (by decide) ?_
            refine x_icmp_eq (tgt := 153) C dX6_next_139 (by decide) (fun c9 => ?_) (fun c9 => ?_)
            · have hf := pf_t c9 hf
              refine x_iconst (3 : Int32) C dX6_next_153 (by decide) ?_
              refine x_goto (tgt := 158) C dX6_next_154 (by decide) ?_
              exact w_X6_next_158 n g C B hr dK hQ x0 r2 x0 (3 : Int32) _ hf
            · have hf := pf_f c9 hf
              refine x_iload_n C dX6_next_142 1 rfl ?_
              refine x_bipush (60 : Int32) C dX6_next_143 (by decide) ?_
              refine x_bipush (62 : Int32) C dX6_next_145 (by decide) ?_
              refine k_X1_isIn_X6 C B dK (Nat.le_of_ble_eq_true rfl) cz rfl (Nat.le_of_ble_eq_true rfl) dX6_next_147 ?_
              refine x_if_eq (tgt := 157) C dX6_next_150 (by decide) (fun c10 => ?_) (fun c10 => ?_)
              · have hf := pf_t c10 hf
                refine x_iconst (4 : Int32) C dX6_next_157 (by decide) ?_
                exact w_X6_next_158 n g C B hr dK hQ x0 r2 x0 (4 : Int32) _ hf
              · have hf := pf_f c10 hf
                refine x_iconst (3 : Int32) C dX6_next_153 (by decide) ?_
                refine x_goto (tgt := 158) C dX6_next_154 (by decide) ?_
                exact w_X6_next_158 n g C B hr dK hQ x0 r2 x0 (3 : Int32) _ hf
      · have hf := pf_f c6 hf
        refine x_aload_n C dX6_next_111 0 rfl ?_
        refine x_aload_n C dX6_next_112 0 rfl ?_
        refine x_iload_n C dX6_next_113 1 rfl ?_
        refine k_X6_isLetter_X6 C B t1 dK (Nat.le_of_ble_eq_true rfl) cz rfl (Nat.le_of_ble_eq_true rfl) dX6_next_114 ?_
        obtain ⟨r11, er11, hf⟩ := pf_b hf
        refine k_X6_run_X6 C B t1 dK (Nat.le_of_ble_eq_true rfl) cz er11 (Nat.le_of_ble_eq_true rfl) dX6_next_117 ?_
        refine x_goto (tgt := 176) C dX6_next_120 (by decide) ?_
        obtain rfl := Option.some.inj hf
        exact c_vret C hr hQ dX6_next_176
  · have hf := pf_f c3 hf
    refine x_aload_n C dX6_next_87 0 rfl ?_
    refine x_iconst (0 : Int32) C dX6_next_88 (by decide) ?_
    refine cpR_3 C B t1 (flo C q500) fsm dX6_next_89 ?_
    obtain ⟨s12, es12, hf⟩ := pf_e hf
    refine c_ren es12 ?_
    refine x_goto (tgt := 176) C dX6_next_92 (by decide) ?_
    obtain rfl := Option.some.inj hf
    exact c_vret C hr hQ dX6_next_176
def f_X6_next_L0 (n : Nat) (g : CG) : Nat → Nat → CD → Option CD
  | 0, _, _ => none
  | m + 1, x0, d => if rdT (ht g x0) = true then (f_X6_peek g d x0).bind fun r2 => if r2 = (32 : Int32) then (ev (wi d x0 1 ((hi d x0 1) + (1 : Int32))) fun s4 => f_X6_next_L0 n g m x0 s4) else ((f_X6_peek g d x0).bind fun r5 => if r5 = (10 : Int32) then (ev (wi d x0 1 ((hi d x0 1) + (1 : Int32))) fun s14 => f_X6_next_L0 n g m x0 s14) else (ev (wi d x0 2 (hi d x0 1)) fun s7 => (hr g x0 7).bind fun p8 => if ht g p8 = 1 then if (hi s7 p8 2) ≤ (hi s7 x0 0) then (f_X6_next_L78 n g x0 s7) else (if (hi s7 x0 1) < (hi s7 x0 0) then (f_X6_next_L78 n g x0 s7) else (ev (wi s7 x0 2 (hi s7 x0 0)) fun s12 => ev (wi s12 x0 3 (4 : Int32)) fun s13 => some s13)) else none)) else none
set_option maxHeartbeats 4000000 in
theorem w_X6_next_0 {K : KT} {T : CT} {τ : CD} (n : Nat) (g : CG) (C : Kok K cX6_next 2 RX6) (B : CB K T) (hr : (kMe K).sig.returnType = none) (dK : kR K = rmC 5 0 0) (hQ : KQc K T none 0 0 g τ) : ∀ (m : Nat) (x0 : Nat) (d : CD) (hf : f_X6_next_L0 n g m x0 d = some τ), XJ K 2 (Wc K T 0 0 g d) 0 [(0, .ref x0)] [] := by
  intro m
  induction m with
  | zero => intro x0 d hf; cases hf
  | succ m ih =>
    intro x0 d hf
    rw [f_X6_next_L0] at hf
    refine x_aload_n C dX6_next_0 0 rfl ?_
    obtain ⟨t1, hf⟩ := pf_ch hf
    obtain ⟨r2, er2, hf⟩ := pf_b hf
    refine k_X6_peek_X6 C B t1 dK (Nat.le_of_ble_eq_true rfl) cz er2 (Nat.le_of_ble_eq_true rfl) dX6_next_1 ?_
    refine x_bipush (32 : Int32) C dX6_next_4 (by decide) ?_
    refine x_icmp_eq (tgt := 18) C dX6_next_6 (by decide) (fun c3 => ?_) (fun c3 => ?_)
    · have hf := pf_t c3 hf
      refine x_aload_n C dX6_next_18 0 rfl ?_
      refine x_dup C dX6_next_19 rfl ?_
      refine cgR_1 C B t1 (flo C q492) fsm dX6_next_20 ?_
      refine x_iconst (1 : Int32) C dX6_next_23 (by decide) ?_
      refine x_iadd C dX6_next_24 ?_
      refine cpR_1 C B t1 (flo C q492) fsm dX6_next_25 ?_
      obtain ⟨s4, es4, hf⟩ := pf_e hf
      refine c_ren es4 ?_
      refine x_goto (tgt := 0) C dX6_next_28 (by decide) ?_
      exact ih x0 _ hf
    · have hf := pf_f c3 hf
      refine x_aload_n C dX6_next_9 0 rfl ?_
      obtain ⟨r5, er5, hf⟩ := pf_b hf
      refine k_X6_peek_X6 C B t1 dK (Nat.le_of_ble_eq_true rfl) cz er5 (Nat.le_of_ble_eq_true rfl) dX6_next_10 ?_
      refine x_bipush (10 : Int32) C dX6_next_13 (by decide) ?_
      refine x_icmp_ne (tgt := 31) C dX6_next_15 (by decide) (fun c6 => ?_) (fun c6 => ?_)
      · have hf := pf_f c6 hf
        refine x_aload_n C dX6_next_31 0 rfl ?_
        refine x_aload_n C dX6_next_32 0 rfl ?_
        refine cgR_1 C B t1 (flo C q492) fsm dX6_next_33 ?_
        refine cpR_2 C B t1 (flo C q493) fsm dX6_next_36 ?_
        obtain ⟨s7, es7, hf⟩ := pf_e hf
        refine c_ren es7 ?_
        refine x_aload_n C dX6_next_39 0 rfl ?_
        obtain ⟨p8, ep8, hf⟩ := pf_b hf
        refine cgR_7 C B t1 (flo C q508) fsm ep8 dX6_next_40 ?_
        obtain ⟨t9, hf⟩ := pf_ch hf
        refine cg1_2 C B t9 (fln B q612) fsm dX6_next_43 ?_
        refine x_aload_n C dX6_next_46 0 rfl ?_
        refine cgR_0 C B t1 (flo C q491) fsm dX6_next_47 ?_
        refine x_icmp_le (tgt := 78) C dX6_next_50 (by decide) (fun c10 => ?_) (fun c10 => ?_)
        · have hf := pf_t c10 hf
          exact w_X6_next_78 n g C B hr dK hQ x0 _ hf
        · have hf := pf_f c10 hf
          refine x_aload_n C dX6_next_53 0 rfl ?_
          refine cgR_1 C B t1 (flo C q492) fsm dX6_next_54 ?_
          refine x_aload_n C dX6_next_57 0 rfl ?_
          refine cgR_0 C B t1 (flo C q491) fsm dX6_next_58 ?_
          refine x_icmp_lt (tgt := 78) C dX6_next_61 (by decide) (fun c11 => ?_) (fun c11 => ?_)
          · have hf := pf_t c11 hf
            exact w_X6_next_78 n g C B hr dK hQ x0 _ hf
          · have hf := pf_f c11 hf
            refine x_aload_n C dX6_next_64 0 rfl ?_
            refine x_aload_n C dX6_next_65 0 rfl ?_
            refine cgR_0 C B t1 (flo C q491) fsm dX6_next_66 ?_
            refine cpR_2 C B t1 (flo C q493) fsm dX6_next_69 ?_
            obtain ⟨s12, es12, hf⟩ := pf_e hf
            refine c_ren es12 ?_
            refine x_aload_n C dX6_next_72 0 rfl ?_
            refine x_iconst (4 : Int32) C dX6_next_73 (by decide) ?_
            refine cpR_3 C B t1 (flo C q500) fsm dX6_next_74 ?_
            obtain ⟨s13, es13, hf⟩ := pf_e hf
            refine c_ren es13 ?_
            obtain rfl := Option.some.inj hf
            exact c_vret C hr hQ dX6_next_77
      · have hf := pf_t c6 hf
        refine x_aload_n C dX6_next_18 0 rfl ?_
        refine x_dup C dX6_next_19 rfl ?_
        refine cgR_1 C B t1 (flo C q492) fsm dX6_next_20 ?_
        refine x_iconst (1 : Int32) C dX6_next_23 (by decide) ?_
        refine x_iadd C dX6_next_24 ?_
        refine cpR_1 C B t1 (flo C q492) fsm dX6_next_25 ?_
        obtain ⟨s14, es14, hf⟩ := pf_e hf
        refine c_ren es14 ?_
        refine x_goto (tgt := 0) C dX6_next_28 (by decide) ?_
        exact ih x0 _ hf
def f_X6_next (n : Nat) (g : CG) (x0 : Nat) (d : CD) : Option CD := f_X6_next_L0 n g n x0 d
set_option maxHeartbeats 4000000 in
theorem w_X6_next_E {K : KT} {T : CT} {τ : CD} (n : Nat) (g : CG) (C : Kok K cX6_next 2 RX6) (B : CB K T) (hr : (kMe K).sig.returnType = none) (dK : kR K = rmC 5 0 0) (hQ : KQc K T none 0 0 g τ) (x0 : Nat) (d : CD) (hf : f_X6_next n g x0 d = some τ) : XJ K 2 (Wc K T 0 0 g d) 0 [(0, .ref x0)] [] := by
  unfold f_X6_next at hf
  exact w_X6_next_0 n g C B hr dK hQ n x0 _ hf
theorem met_X6_next {T : CT} {v : CD} {n : Nat} {g : CG} {d : CD} {x0 : Nat} {l : Launch} (hf : f_X6_next n g x0 d = some v) : Met l yX6_next (ws_ yX6_next cX6_next 2 none) (rmC 5 0 0) (va_Pc [.ref x0] (CU T g d)) (Qc T none g v) 0 0 (cA T) :=
  c_met [.ref x0] RX6 (by decide) rfl (Nat.le_of_ble_eq_true rfl) (fun K hl hR hr C B hQ => w_X6_next_E _ _ C B hr hR hQ _ _ hf)
theorem k_X6_next_X6 {K : KT} {T : CT} {c0 s0 c1 s1 dk : Nat} {cc : ByteArray} {nL pc : Nat} {L : List (Nat × Value)} {rest : List Value} {g : CG} {d : CD} {v : CD} {n : Nat} {x0 : Nat} (C : Kok K cc nL RX6) (B : CB K T) (hta : rdT (ht g x0) = true) (dK : kR K = rmC dk c1 s1) (hd : 5 + 1 ≤ dk) (hcs : c0 + 0 ≤ c1 ∧ s0 + 0 ≤ s1) (hf : f_X6_next n g x0 d = some v) (hW : (rest.map fun v => v.category).sum ≤ 8) (dd : decode cc pc = .ok (.invokevirtual 22, 3)) (kk2 : XJ K nL (Wc K T c0 s0 g v) (pc + 3) L (rest)) : XJ K nL (Wc K T c0 s0 g d) pc L (.ref x0 :: rest) := by
  rcases rdT_or hta with e | e | e
  · exact c_callU (rest := rest) (v := none) (x := ⟨"StatueRent$Reader", "next", "()V"⟩) (owner := "StatueRent$Reader") [] 0 rfl C B e (by decide) (by decide) rfl dK hd (Nat.le_of_ble_eq_true rfl) hcs q779 q773 q775 (C.2.2.2.2.1 _ q776) q774 q128 rfl (by decide +kernel) (met_X6_next hf) rfl hW dd kk2
  · exact c_callU (rest := rest) (v := none) (x := ⟨"StatueRent$Reader", "next", "()V"⟩) (owner := "StatueRent$Reader") [] 0 rfl C B e (by decide) (by decide) rfl dK hd (Nat.le_of_ble_eq_true rfl) hcs q779 q773 q775 (C.2.2.2.2.1 _ q777) q774 q128 rfl (by decide +kernel) (met_X6_next hf) rfl hW dd kk2
  · exact c_callU (rest := rest) (v := none) (x := ⟨"StatueRent$Reader", "next", "()V"⟩) (owner := "StatueRent$Reader") [] 0 rfl C B e (by decide) (by decide) rfl dK hd (Nat.le_of_ble_eq_true rfl) hcs q779 q773 q775 (C.2.2.2.2.1 _ q778) q774 q128 rfl (by decide +kernel) (met_X6_next hf) rfl hW dd kk2
def f_X6_begin (n : Nat) (g : CG) (x0 : Nat) (d : CD) : Option CD := if rdT (ht g x0) = true then ev (wi d x0 1 (0 : Int32)) fun s2 => (f_X6_next n g x0 s2).bind fun r3 => some r3 else none
set_option maxHeartbeats 4000000 in
theorem w_X6_begin_E {K : KT} {T : CT} {τ : CD} (n : Nat) (g : CG) (C : Kok K cX6_begin 1 RX6) (B : CB K T) (hr : (kMe K).sig.returnType = none) (dK : kR K = rmC 6 0 0) (hQ : KQc K T none 0 0 g τ) (x0 : Nat) (d : CD) (hf : f_X6_begin n g x0 d = some τ) : XJ K 1 (Wc K T 0 0 g d) 0 [(0, .ref x0)] [] := by
  unfold f_X6_begin at hf
  refine x_aload_n C dX6_begin_0 0 rfl ?_
  refine x_iconst (0 : Int32) C dX6_begin_1 (by decide) ?_
  obtain ⟨t1, hf⟩ := pf_ch hf
  refine cpR_1 C B t1 (flo C q492) fsm dX6_begin_2 ?_
  obtain ⟨s2, es2, hf⟩ := pf_e hf
  refine c_ren es2 ?_
  refine x_aload_n C dX6_begin_5 0 rfl ?_
  obtain ⟨r3, er3, hf⟩ := pf_b hf
  refine k_X6_next_X6 C B t1 dK (Nat.le_of_ble_eq_true rfl) cz er3 (Nat.le_of_ble_eq_true rfl) dX6_begin_6 ?_
  obtain rfl := Option.some.inj hf
  exact c_vret C hr hQ dX6_begin_9
theorem met_X6_begin {T : CT} {v : CD} {n : Nat} {g : CG} {d : CD} {x0 : Nat} {l : Launch} (hf : f_X6_begin n g x0 d = some v) : Met l yX6_begin (ws_ yX6_begin cX6_begin 1 none) (rmC 6 0 0) (va_Pc [.ref x0] (CU T g d)) (Qc T none g v) 0 0 (cA T) :=
  c_met [.ref x0] RX6 (by decide) rfl (Nat.le_of_ble_eq_true rfl) (fun K hl hR hr C B hQ => w_X6_begin_E _ _ C B hr hR hQ _ _ hf)
def f_X6_is_L23 (n : Nat) (g : CG) (d : CD) : Nat → Nat → Nat → Int32 → Option Int32
  | 0, _, _, _ => none
  | m + 1, x0, x1, x2 => if rdT (ht g x0) = true then if (hi d x0 5) ≤ x2 then (some (1 : Int32)) else ((hr g x0 7).bind fun p3 => if ht g p3 = 1 then (hr g p3 0).bind fun p5 => if ht g p5 = 103 then if inb ((hi d x0 2) + x2) (hn g p5) = true then if ht g x1 = 90 then if inb x2 (hn g x1) = true then if hn g x1 < 2147483648 then if (hi d p5 (Int32.toNatClampNeg ((hi d x0 2) + x2))) = (j_chr (hi d x1 (Int32.toNatClampNeg x2))) then (f_X6_is_L23 n g d m x0 x1 (x2 + (1 : Int32))) else (some (0 : Int32)) else none else none else none else none else none else none) else none
set_option maxHeartbeats 4000000 in
theorem w_X6_is_23 {K : KT} {T : CT} {r : Int32} (n : Nat) (g : CG) (d : CD) (C : Kok K cX6_is 3 RX6) (B : CB K T) (hr : (kMe K).sig.returnType = (some .boolean)) (dK : kR K = rmC 6 0 0) (hQ : KQc K T (some (.int r)) 0 0 g d) : ∀ (m : Nat) (x0 : Nat) (x1 : Nat) (x2 : Int32) (hf : f_X6_is_L23 n g d m x0 x1 x2 = some r), XJ K 3 (Wc K T 0 0 g d) 23 [(0, .ref x0), (1, .ref x1), (2, .int x2)] [] := by
  intro m
  induction m with
  | zero => intro x0 x1 x2 hf; cases hf
  | succ m ih =>
    intro x0 x1 x2 hf
    rw [f_X6_is_L23] at hf
    refine x_iload_n C dX6_is_23 2 rfl ?_
    refine x_aload_n C dX6_is_24 0 rfl ?_
    obtain ⟨t1, hf⟩ := pf_ch hf
    refine cgR_5 C B t1 (flo C q504) fsm dX6_is_25 ?_
    refine x_icmp_ge (tgt := 61) C dX6_is_28 (by decide) (fun c2 => ?_) (fun c2 => ?_)
    · have hf := pf_t c2 hf
      refine x_iconst (1 : Int32) C dX6_is_61 (by decide) ?_
      obtain rfl := Option.some.inj hf
      exact c_zret C hr (Or.inr rfl) hQ dX6_is_62
    · have hf := pf_f c2 hf
      refine x_aload_n C dX6_is_31 0 rfl ?_
      obtain ⟨p3, ep3, hf⟩ := pf_b hf
      refine cgR_7 C B t1 (flo C q508) fsm ep3 dX6_is_32 ?_
      obtain ⟨t4, hf⟩ := pf_ch hf
      obtain ⟨p5, ep5, hf⟩ := pf_b hf
      refine cg1_0 C B t4 (fln B q610) fsm ep5 dX6_is_35 ?_
      refine x_aload_n C dX6_is_38 0 rfl ?_
      refine cgR_2 C B t1 (flo C q493) fsm dX6_is_39 ?_
      refine x_iload_n C dX6_is_42 2 rfl ?_
      refine x_iadd C dX6_is_43 ?_
      obtain ⟨t6, hf⟩ := pf_ch hf
      obtain ⟨h7, hf⟩ := pf_in hf
      refine ca_bld C B t6 h7 dX6_is_44 ?_
      refine x_aload_n C dX6_is_45 1 rfl ?_
      refine x_iload_n C dX6_is_46 2 rfl ?_
      obtain ⟨t8, hf⟩ := pf_ch hf
      obtain ⟨h9, hf⟩ := pf_in hf
      obtain ⟨h10, hf⟩ := pf_ch hf
      refine c_schar C B t8 h9 h10 q822 dK (Nat.le_of_ble_eq_true rfl) cz (Nat.le_of_ble_eq_true rfl) dX6_is_47 ?_
      refine x_icmp_eq (tgt := 55) C dX6_is_50 (by decide) (fun c11 => ?_) (fun c11 => ?_)
      · have hf := pf_t c11 hf
        refine x_inc (c := (1 : Int32)) (L' := [(0, .ref x0), (1, .ref x1), (2, .int (x2 + (1 : Int32)))]) C dX6_is_55 2 rfl (by decide) (Nat.le_of_ble_eq_true rfl) [1, 2, 0] rfl ?_
        refine x_goto (tgt := 23) C dX6_is_58 (by decide) ?_
        exact ih x0 x1 (x2 + (1 : Int32)) hf
      · have hf := pf_f c11 hf
        refine x_iconst (0 : Int32) C dX6_is_53 (by decide) ?_
        obtain rfl := Option.some.inj hf
        exact c_zret C hr (Or.inl rfl) hQ dX6_is_54
theorem bz_X6_is_23 {r : Int32} {n : Nat} {g : CG} {d : CD} : ∀ (m : Nat) (x0 : Nat) (x1 : Nat) (x2 : Int32) (hf : f_X6_is_L23 n g d m x0 x1 x2 = some r), r = 0 ∨ r = 1 := by
  intro m
  induction m with
  | zero => intro x0 x1 x2 hf; cases hf
  | succ m ih =>
    intro x0 x1 x2 hf
    rw [f_X6_is_L23] at hf
    obtain ⟨t1, hf⟩ := pf_ch hf
    by_cases c2 : (hi d x0 5) ≤ x2
    · have hf := pf_t c2 hf
      obtain rfl := Option.some.inj hf
      exact (Or.inr rfl)
    · have hf := pf_f c2 hf
      obtain ⟨p3, ep3, hf⟩ := pf_b hf
      obtain ⟨t4, hf⟩ := pf_ch hf
      obtain ⟨p5, ep5, hf⟩ := pf_b hf
      obtain ⟨t6, hf⟩ := pf_ch hf
      obtain ⟨h7, hf⟩ := pf_in hf
      obtain ⟨t8, hf⟩ := pf_ch hf
      obtain ⟨h9, hf⟩ := pf_in hf
      obtain ⟨h10, hf⟩ := pf_ch hf
      by_cases c11 : (hi d p5 (Int32.toNatClampNeg ((hi d x0 2) + x2))) = (j_chr (hi d x1 (Int32.toNatClampNeg x2)))
      · have hf := pf_t c11 hf
        exact ih x0 x1 (x2 + (1 : Int32)) hf
      · have hf := pf_f c11 hf
        obtain rfl := Option.some.inj hf
        exact (Or.inl rfl)
def f_X6_is (n : Nat) (g : CG) (d : CD) (x0 : Nat) (x1 : Nat) : Option Int32 := if rdT (ht g x0) = true then if (hi d x0 3) = (1 : Int32) then (if ht g x1 = 90 then if (hi d x0 5) = (Int32.ofNat (hn g x1)) then (f_X6_is_L23 n g d n x0 x1 (0 : Int32)) else (some (0 : Int32)) else none) else (some (0 : Int32)) else none
set_option maxHeartbeats 4000000 in
theorem w_X6_is_E {K : KT} {T : CT} {r : Int32} (n : Nat) (g : CG) (d : CD) (C : Kok K cX6_is 3 RX6) (B : CB K T) (hr : (kMe K).sig.returnType = (some .boolean)) (dK : kR K = rmC 6 0 0) (hQ : KQc K T (some (.int r)) 0 0 g d) (x0 : Nat) (x1 : Nat) (hf : f_X6_is n g d x0 x1 = some r) : XJ K 3 (Wc K T 0 0 g d) 0 [(0, .ref x0), (1, .ref x1)] [] := by
  unfold f_X6_is at hf
  refine x_aload_n C dX6_is_0 0 rfl ?_
  obtain ⟨t1, hf⟩ := pf_ch hf
  refine cgR_3 C B t1 (flo C q500) fsm dX6_is_1 ?_
  refine x_iconst (1 : Int32) C dX6_is_4 (by decide) ?_
  refine x_icmp_ne (tgt := 19) C dX6_is_5 (by decide) (fun c2 => ?_) (fun c2 => ?_)
  · have hf := pf_f c2 hf
    refine x_iconst (0 : Int32) C dX6_is_19 (by decide) ?_
    obtain rfl := Option.some.inj hf
    exact c_zret C hr (Or.inl rfl) hQ dX6_is_20
  · have hf := pf_t c2 hf
    refine x_aload_n C dX6_is_8 0 rfl ?_
    refine cgR_5 C B t1 (flo C q504) fsm dX6_is_9 ?_
    refine x_aload_n C dX6_is_12 1 rfl ?_
    obtain ⟨t3, hf⟩ := pf_ch hf
    refine c_slen C B t3 q812 dK (Nat.le_of_ble_eq_true rfl) cz (Nat.le_of_ble_eq_true rfl) dX6_is_13 ?_
    refine x_icmp_eq (tgt := 21) C dX6_is_16 (by decide) (fun c4 => ?_) (fun c4 => ?_)
    · have hf := pf_t c4 hf
      refine x_iconst (0 : Int32) C dX6_is_21 (by decide) ?_
      refine x_istore_n (L' := [(0, .ref x0), (1, .ref x1), (2, .int (0 : Int32))]) C dX6_is_22 (Nat.le_of_ble_eq_true rfl) [1, 2, 0] rfl ?_
      exact w_X6_is_23 n g d C B hr dK hQ n x0 x1 (0 : Int32) hf
    · have hf := pf_f c4 hf
      refine x_iconst (0 : Int32) C dX6_is_19 (by decide) ?_
      obtain rfl := Option.some.inj hf
      exact c_zret C hr (Or.inl rfl) hQ dX6_is_20
theorem bz_X6_is_E {r : Int32} {n : Nat} {g : CG} {d : CD} {x0 : Nat} {x1 : Nat} (hf : f_X6_is n g d x0 x1 = some r) : r = 0 ∨ r = 1 := by
  unfold f_X6_is at hf
  obtain ⟨t1, hf⟩ := pf_ch hf
  by_cases c2 : (hi d x0 3) = (1 : Int32)
  · have hf := pf_t c2 hf
    obtain ⟨t3, hf⟩ := pf_ch hf
    by_cases c4 : (hi d x0 5) = (Int32.ofNat (hn g x1))
    · have hf := pf_t c4 hf
      exact bz_X6_is_23 n x0 x1 (0 : Int32) hf
    · have hf := pf_f c4 hf
      obtain rfl := Option.some.inj hf
      exact (Or.inl rfl)
  · have hf := pf_f c2 hf
    obtain rfl := Option.some.inj hf
    exact (Or.inl rfl)
theorem met_X6_is {T : CT} {v : Int32} {n : Nat} {g : CG} {d : CD} {x0 : Nat} {x1 : Nat} {l : Launch} (hf : f_X6_is n g d x0 x1 = some v) : Met l yX6_is (ws_ yX6_is cX6_is 3 (some .boolean)) (rmC 6 0 0) (va_Pc [.ref x0, .ref x1] (CU T g d)) (Qc T (some (.int v)) g d) 0 0 (cA T) :=
  c_met [.ref x0, .ref x1] RX6 (by decide) rfl (Nat.le_of_ble_eq_true rfl) (fun K hl hR hr C B hQ => w_X6_is_E _ _ _ C B hr hR hQ _ _ hf)
theorem k_X6_is_X6 {K : KT} {T : CT} {c0 s0 c1 s1 dk : Nat} {cc : ByteArray} {nL pc : Nat} {L : List (Nat × Value)} {rest : List Value} {g : CG} {d : CD} {v : Int32} {n : Nat} {x0 : Nat} {x1 : Nat} (C : Kok K cc nL RX6) (B : CB K T) (hta : rdT (ht g x0) = true) (dK : kR K = rmC dk c1 s1) (hd : 6 + 1 ≤ dk) (hcs : c0 + 0 ≤ c1 ∧ s0 + 0 ≤ s1) (hf : f_X6_is n g d x0 x1 = some v) (hW : (rest.map fun v => v.category).sum ≤ 8) (dd : decode cc pc = .ok (.invokevirtual 76, 3)) (kk2 : XJ K nL (Wc K T c0 s0 g d) (pc + 3) L ((.int v) :: rest)) : XJ K nL (Wc K T c0 s0 g d) pc L (.ref x1 :: .ref x0 :: rest) := by
  rcases rdT_or hta with e | e | e
  · exact c_callU (rest := rest) (v := (some (.int v))) (x := ⟨"StatueRent$Reader", "is", "(Ljava/lang/String;)Z"⟩) (owner := "StatueRent$Reader") [.ref x1] 1 rfl C B e (by decide) (by decide) rfl dK hd (Nat.le_of_ble_eq_true rfl) hcs q811 q805 q807 (C.2.2.2.2.1 _ q808) q806 q128 rfl (by decide +kernel) (met_X6_is hf) rfl hW dd kk2
  · exact c_callU (rest := rest) (v := (some (.int v))) (x := ⟨"StatueRent$Reader", "is", "(Ljava/lang/String;)Z"⟩) (owner := "StatueRent$Reader") [.ref x1] 1 rfl C B e (by decide) (by decide) rfl dK hd (Nat.le_of_ble_eq_true rfl) hcs q811 q805 q807 (C.2.2.2.2.1 _ q809) q806 q128 rfl (by decide +kernel) (met_X6_is hf) rfl hW dd kk2
  · exact c_callU (rest := rest) (v := (some (.int v))) (x := ⟨"StatueRent$Reader", "is", "(Ljava/lang/String;)Z"⟩) (owner := "StatueRent$Reader") [.ref x1] 1 rfl C B e (by decide) (by decide) rfl dK hd (Nat.le_of_ble_eq_true rfl) hcs q811 q805 q807 (C.2.2.2.2.1 _ q810) q806 q128 rfl (by decide +kernel) (met_X6_is hf) rfl hW dd kk2
def f_X6_find_L2 (n : Nat) (g : CG) (d : CD) : Nat → Nat → Nat → Int32 → Option Int32
  | 0, _, _, _ => none
  | m + 1, x0, x1, x2 => if ht g x1 = 109 then if (Int32.ofNat (hn g x1)) ≤ x2 then (some (-1 : Int32)) else (if inb x2 (hn g x1) = true then (hr g x1 (Int32.toNatClampNeg x2)).bind fun p4 => if rdT (ht g x0) = true then (f_X6_is n g d x0 p4).bind fun r6 => if r6 = 0 then (f_X6_find_L2 n g d m x0 x1 (x2 + (1 : Int32))) else (some x2) else none else none) else none
set_option maxHeartbeats 4000000 in
theorem w_X6_find_2 {K : KT} {T : CT} {r : Int32} (n : Nat) (g : CG) (d : CD) (C : Kok K cX6_find 3 RX6) (B : CB K T) (hr : (kMe K).sig.returnType = (some .int)) (dK : kR K = rmC 7 0 0) (hQ : KQc K T (some (.int r)) 0 0 g d) : ∀ (m : Nat) (x0 : Nat) (x1 : Nat) (x2 : Int32) (hf : f_X6_find_L2 n g d m x0 x1 x2 = some r), XJ K 3 (Wc K T 0 0 g d) 2 [(0, .ref x0), (1, .ref x1), (2, .int x2)] [] := by
  intro m
  induction m with
  | zero => intro x0 x1 x2 hf; cases hf
  | succ m ih =>
    intro x0 x1 x2 hf
    rw [f_X6_find_L2] at hf
    refine x_iload_n C dX6_find_2 2 rfl ?_
    refine x_aload_n C dX6_find_3 1 rfl ?_
    obtain ⟨t1, hf⟩ := pf_ch hf
    refine ca_len C B t1 (Or.inr (Or.inl rfl)) rfl dX6_find_4 ?_
    refine x_icmp_ge (tgt := 26) C dX6_find_5 (by decide) (fun c2 => ?_) (fun c2 => ?_)
    · have hf := pf_t c2 hf
      refine x_iconst (-1 : Int32) C dX6_find_26 (by decide) ?_
      obtain rfl := Option.some.inj hf
      exact c_iret C hr hQ dX6_find_27
    · have hf := pf_f c2 hf
      refine x_aload_n C dX6_find_8 0 rfl ?_
      refine x_aload_n C dX6_find_9 1 rfl ?_
      refine x_iload_n C dX6_find_10 2 rfl ?_
      obtain ⟨h3, hf⟩ := pf_in hf
      obtain ⟨p4, ep4, hf⟩ := pf_b hf
      refine ca_ald9 C B t1 h3 ep4 dX6_find_11 ?_
      obtain ⟨t5, hf⟩ := pf_ch hf
      obtain ⟨r6, er6, hf⟩ := pf_b hf
      refine k_X6_is_X6 C B t5 dK (Nat.le_of_ble_eq_true rfl) cz er6 (Nat.le_of_ble_eq_true rfl) dX6_find_12 ?_
      refine x_if_eq (tgt := 20) C dX6_find_15 (by decide) (fun c7 => ?_) (fun c7 => ?_)
      · have hf := pf_t c7 hf
        refine x_inc (c := (1 : Int32)) (L' := [(0, .ref x0), (1, .ref x1), (2, .int (x2 + (1 : Int32)))]) C dX6_find_20 2 rfl (by decide) (Nat.le_of_ble_eq_true rfl) [1, 2, 0] rfl ?_
        refine x_goto (tgt := 2) C dX6_find_23 (by decide) ?_
        exact ih x0 x1 (x2 + (1 : Int32)) hf
      · have hf := pf_f c7 hf
        refine x_iload_n C dX6_find_18 2 rfl ?_
        obtain rfl := Option.some.inj hf
        exact c_iret C hr hQ dX6_find_19
def f_X6_find (n : Nat) (g : CG) (d : CD) (x0 : Nat) (x1 : Nat) : Option Int32 := f_X6_find_L2 n g d n x0 x1 (0 : Int32)
set_option maxHeartbeats 4000000 in
theorem w_X6_find_E {K : KT} {T : CT} {r : Int32} (n : Nat) (g : CG) (d : CD) (C : Kok K cX6_find 3 RX6) (B : CB K T) (hr : (kMe K).sig.returnType = (some .int)) (dK : kR K = rmC 7 0 0) (hQ : KQc K T (some (.int r)) 0 0 g d) (x0 : Nat) (x1 : Nat) (hf : f_X6_find n g d x0 x1 = some r) : XJ K 3 (Wc K T 0 0 g d) 0 [(0, .ref x0), (1, .ref x1)] [] := by
  unfold f_X6_find at hf
  refine x_iconst (0 : Int32) C dX6_find_0 (by decide) ?_
  refine x_istore_n (L' := [(0, .ref x0), (1, .ref x1), (2, .int (0 : Int32))]) C dX6_find_1 (Nat.le_of_ble_eq_true rfl) [1, 2, 0] rfl ?_
  exact w_X6_find_2 n g d C B hr dK hQ n x0 x1 (0 : Int32) hf
theorem met_X6_find {T : CT} {v : Int32} {n : Nat} {g : CG} {d : CD} {x0 : Nat} {x1 : Nat} {l : Launch} (hf : f_X6_find n g d x0 x1 = some v) : Met l yX6_find (ws_ yX6_find cX6_find 3 (some .int)) (rmC 7 0 0) (va_Pc [.ref x0, .ref x1] (CU T g d)) (Qc T (some (.int v)) g d) 0 0 (cA T) :=
  c_met [.ref x0, .ref x1] RX6 (by decide) rfl (Nat.le_of_ble_eq_true rfl) (fun K hl hR hr C B hQ => w_X6_find_E _ _ _ C B hr hR hQ _ _ hf)
theorem k_X6_find_X6 {K : KT} {T : CT} {c0 s0 c1 s1 dk : Nat} {cc : ByteArray} {nL pc : Nat} {L : List (Nat × Value)} {rest : List Value} {g : CG} {d : CD} {v : Int32} {n : Nat} {x0 : Nat} {x1 : Nat} (C : Kok K cc nL RX6) (B : CB K T) (hta : rdT (ht g x0) = true) (dK : kR K = rmC dk c1 s1) (hd : 7 + 1 ≤ dk) (hcs : c0 + 0 ≤ c1 ∧ s0 + 0 ≤ s1) (hf : f_X6_find n g d x0 x1 = some v) (hW : (rest.map fun v => v.category).sum ≤ 8) (dd : decode cc pc = .ok (.invokevirtual 84, 3)) (kk2 : XJ K nL (Wc K T c0 s0 g d) (pc + 3) L ((.int v) :: rest)) : XJ K nL (Wc K T c0 s0 g d) pc L (.ref x1 :: .ref x0 :: rest) := by
  rcases rdT_or hta with e | e | e
  · exact c_callU (rest := rest) (v := (some (.int v))) (x := ⟨"StatueRent$Reader", "find", "([Ljava/lang/String;)I"⟩) (owner := "StatueRent$Reader") [.ref x1] 1 rfl C B e (by decide) (by decide) rfl dK hd (Nat.le_of_ble_eq_true rfl) hcs q804 q895 q2518 (C.2.2.2.2.1 _ q2519) q803 q128 rfl (by decide +kernel) (met_X6_find hf) rfl hW dd kk2
  · exact c_callU (rest := rest) (v := (some (.int v))) (x := ⟨"StatueRent$Reader", "find", "([Ljava/lang/String;)I"⟩) (owner := "StatueRent$Reader") [.ref x1] 1 rfl C B e (by decide) (by decide) rfl dK hd (Nat.le_of_ble_eq_true rfl) hcs q804 q895 q2518 (C.2.2.2.2.1 _ q2520) q803 q128 rfl (by decide +kernel) (met_X6_find hf) rfl hW dd kk2
  · exact c_callU (rest := rest) (v := (some (.int v))) (x := ⟨"StatueRent$Reader", "find", "([Ljava/lang/String;)I"⟩) (owner := "StatueRent$Reader") [.ref x1] 1 rfl C B e (by decide) (by decide) rfl dK hd (Nat.le_of_ble_eq_true rfl) hcs q804 q895 q2518 (C.2.2.2.2.1 _ q2521) q803 q128 rfl (by decide +kernel) (met_X6_find hf) rfl hW dd kk2
def f_X6_isName (n : Nat) (g : CG) (d : CD) (x0 : Nat) : Option Int32 := if rdT (ht g x0) = true then if (hi d x0 3) = (1 : Int32) then ((hr g x0 7).bind fun p3 => if ht g p3 = 1 then (hr g p3 4).bind fun p5 => (f_X6_find n g d x0 p5).bind fun r6 => if r6 = (-1 : Int32) then ((hr g p3 5).bind fun p8 => (f_X6_find n g d x0 p8).bind fun r9 => if r9 = (-1 : Int32) then (some (1 : Int32)) else (some (0 : Int32))) else (some (0 : Int32)) else none) else (some (0 : Int32)) else none
set_option maxHeartbeats 4000000 in
theorem w_X6_isName_E {K : KT} {T : CT} {r : Int32} (n : Nat) (g : CG) (d : CD) (C : Kok K cX6_isName 1 RX6) (B : CB K T) (hr : (kMe K).sig.returnType = (some .boolean)) (dK : kR K = rmC 8 0 0) (hQ : KQc K T (some (.int r)) 0 0 g d) (x0 : Nat) (hf : f_X6_isName n g d x0 = some r) : XJ K 1 (Wc K T 0 0 g d) 0 [(0, .ref x0)] [] := by
  unfold f_X6_isName at hf
  refine x_aload_n C dX6_isName_0 0 rfl ?_
  obtain ⟨t1, hf⟩ := pf_ch hf
  refine cgR_3 C B t1 (flo C q500) fsm dX6_isName_1 ?_
  refine x_iconst (1 : Int32) C dX6_isName_4 (by decide) ?_
  refine x_icmp_ne (tgt := 42) C dX6_isName_5 (by decide) (fun c2 => ?_) (fun c2 => ?_)
  · have hf := pf_f c2 hf
    refine x_iconst (0 : Int32) C dX6_isName_42 (by decide) ?_
    obtain rfl := Option.some.inj hf
    exact c_zret C hr (Or.inl rfl) hQ dX6_isName_43
  · have hf := pf_t c2 hf
    refine x_aload_n C dX6_isName_8 0 rfl ?_
    refine x_aload_n C dX6_isName_9 0 rfl ?_
    obtain ⟨p3, ep3, hf⟩ := pf_b hf
    refine cgR_7 C B t1 (flo C q508) fsm ep3 dX6_isName_10 ?_
    obtain ⟨t4, hf⟩ := pf_ch hf
    obtain ⟨p5, ep5, hf⟩ := pf_b hf
    refine cg1_4 C B t4 (fln B q618) fsm ep5 dX6_isName_13 ?_
    obtain ⟨r6, er6, hf⟩ := pf_b hf
    refine k_X6_find_X6 C B t1 dK (Nat.le_of_ble_eq_true rfl) cz er6 (Nat.le_of_ble_eq_true rfl) dX6_isName_16 ?_
    refine x_iconst (-1 : Int32) C dX6_isName_19 (by decide) ?_
    refine x_icmp_ne (tgt := 42) C dX6_isName_20 (by decide) (fun c7 => ?_) (fun c7 => ?_)
    · have hf := pf_f c7 hf
      refine x_iconst (0 : Int32) C dX6_isName_42 (by decide) ?_
      obtain rfl := Option.some.inj hf
      exact c_zret C hr (Or.inl rfl) hQ dX6_isName_43
    · have hf := pf_t c7 hf
      refine x_aload_n C dX6_isName_23 0 rfl ?_
      refine x_aload_n C dX6_isName_24 0 rfl ?_
      refine cgR_7 C B t1 (flo C q508) fsm ep3 dX6_isName_25 ?_
      obtain ⟨p8, ep8, hf⟩ := pf_b hf
      refine cg1_5 C B t4 (fln B q620) fsm ep8 dX6_isName_28 ?_
      obtain ⟨r9, er9, hf⟩ := pf_b hf
      refine k_X6_find_X6 C B t1 dK (Nat.le_of_ble_eq_true rfl) cz er9 (Nat.le_of_ble_eq_true rfl) dX6_isName_31 ?_
      refine x_iconst (-1 : Int32) C dX6_isName_34 (by decide) ?_
      refine x_icmp_ne (tgt := 42) C dX6_isName_35 (by decide) (fun c10 => ?_) (fun c10 => ?_)
      · have hf := pf_f c10 hf
        refine x_iconst (0 : Int32) C dX6_isName_42 (by decide) ?_
        obtain rfl := Option.some.inj hf
        exact c_zret C hr (Or.inl rfl) hQ dX6_isName_43
      · have hf := pf_t c10 hf
        refine x_iconst (1 : Int32) C dX6_isName_38 (by decide) ?_
        refine x_goto (tgt := 43) C dX6_isName_39 (by decide) ?_
        obtain rfl := Option.some.inj hf
        exact c_zret C hr (Or.inr rfl) hQ dX6_isName_43
theorem bz_X6_isName_E {r : Int32} {n : Nat} {g : CG} {d : CD} {x0 : Nat} (hf : f_X6_isName n g d x0 = some r) : r = 0 ∨ r = 1 := by
  unfold f_X6_isName at hf
  obtain ⟨t1, hf⟩ := pf_ch hf
  by_cases c2 : (hi d x0 3) = (1 : Int32)
  · have hf := pf_t c2 hf
    obtain ⟨p3, ep3, hf⟩ := pf_b hf
    obtain ⟨t4, hf⟩ := pf_ch hf
    obtain ⟨p5, ep5, hf⟩ := pf_b hf
    obtain ⟨r6, er6, hf⟩ := pf_b hf
    by_cases c7 : r6 = (-1 : Int32)
    · have hf := pf_t c7 hf
      obtain ⟨p8, ep8, hf⟩ := pf_b hf
      obtain ⟨r9, er9, hf⟩ := pf_b hf
      by_cases c10 : r9 = (-1 : Int32)
      · have hf := pf_t c10 hf
        obtain rfl := Option.some.inj hf
        exact (Or.inr rfl)
      · have hf := pf_f c10 hf
        obtain rfl := Option.some.inj hf
        exact (Or.inl rfl)
    · have hf := pf_f c7 hf
      obtain rfl := Option.some.inj hf
      exact (Or.inl rfl)
  · have hf := pf_f c2 hf
    obtain rfl := Option.some.inj hf
    exact (Or.inl rfl)
theorem met_X6_isName {T : CT} {v : Int32} {n : Nat} {g : CG} {d : CD} {x0 : Nat} {l : Launch} (hf : f_X6_isName n g d x0 = some v) : Met l yX6_isName (ws_ yX6_isName cX6_isName 1 (some .boolean)) (rmC 8 0 0) (va_Pc [.ref x0] (CU T g d)) (Qc T (some (.int v)) g d) 0 0 (cA T) :=
  c_met [.ref x0] RX6 (by decide) rfl (Nat.le_of_ble_eq_true rfl) (fun K hl hR hr C B hQ => w_X6_isName_E _ _ _ C B hr hR hQ _ hf)
def f_X6_is_2 (g : CG) (d : CD) (x0 : Nat) (x1 : Int32) : Option Int32 := if rdT (ht g x0) = true then if (hi d x0 3) = (3 : Int32) then (if (hi d x0 4) = x1 then (some (1 : Int32)) else (some (0 : Int32))) else (some (0 : Int32)) else none
set_option maxHeartbeats 4000000 in
theorem w_X6_is_2_E {K : KT} {T : CT} {r : Int32} (g : CG) (d : CD) (C : Kok K cX6_is_2 2 RX6) (B : CB K T) (hr : (kMe K).sig.returnType = (some .boolean)) (dK : kR K = rmC 2 0 0) (hQ : KQc K T (some (.int r)) 0 0 g d) (x0 : Nat) (x1 : Int32) (hf : f_X6_is_2 g d x0 x1 = some r) : XJ K 2 (Wc K T 0 0 g d) 0 [(0, .ref x0), (1, .int x1)] [] := by
  unfold f_X6_is_2 at hf
  refine x_aload_n C dX6_is_2_0 0 rfl ?_
  obtain ⟨t1, hf⟩ := pf_ch hf
  refine cgR_3 C B t1 (flo C q500) fsm dX6_is_2_1 ?_
  refine x_iconst (3 : Int32) C dX6_is_2_4 (by decide) ?_
  refine x_icmp_ne (tgt := 20) C dX6_is_2_5 (by decide) (fun c2 => ?_) (fun c2 => ?_)
  · have hf := pf_f c2 hf
    refine x_iconst (0 : Int32) C dX6_is_2_20 (by decide) ?_
    obtain rfl := Option.some.inj hf
    exact c_zret C hr (Or.inl rfl) hQ dX6_is_2_21
  · have hf := pf_t c2 hf
    refine x_aload_n C dX6_is_2_8 0 rfl ?_
    refine cgR_4 C B t1 (flo C q503) fsm dX6_is_2_9 ?_
    refine x_iload_n C dX6_is_2_12 1 rfl ?_
    refine x_icmp_ne (tgt := 20) C dX6_is_2_13 (by decide) (fun c3 => ?_) (fun c3 => ?_)
    · have hf := pf_f c3 hf
      refine x_iconst (0 : Int32) C dX6_is_2_20 (by decide) ?_
      obtain rfl := Option.some.inj hf
      exact c_zret C hr (Or.inl rfl) hQ dX6_is_2_21
    · have hf := pf_t c3 hf
      refine x_iconst (1 : Int32) C dX6_is_2_16 (by decide) ?_
      refine x_goto (tgt := 21) C dX6_is_2_17 (by decide) ?_
      obtain rfl := Option.some.inj hf
      exact c_zret C hr (Or.inr rfl) hQ dX6_is_2_21
theorem bz_X6_is_2_E {r : Int32} {g : CG} {d : CD} {x0 : Nat} {x1 : Int32} (hf : f_X6_is_2 g d x0 x1 = some r) : r = 0 ∨ r = 1 := by
  unfold f_X6_is_2 at hf
  obtain ⟨t1, hf⟩ := pf_ch hf
  by_cases c2 : (hi d x0 3) = (3 : Int32)
  · have hf := pf_t c2 hf
    by_cases c3 : (hi d x0 4) = x1
    · have hf := pf_t c3 hf
      obtain rfl := Option.some.inj hf
      exact (Or.inr rfl)
    · have hf := pf_f c3 hf
      obtain rfl := Option.some.inj hf
      exact (Or.inl rfl)
  · have hf := pf_f c2 hf
    obtain rfl := Option.some.inj hf
    exact (Or.inl rfl)
theorem met_X6_is_2 {T : CT} {v : Int32} {g : CG} {d : CD} {x0 : Nat} {x1 : Int32} {l : Launch} (hf : f_X6_is_2 g d x0 x1 = some v) : Met l yX6_is_2 (ws_ yX6_is_2 cX6_is_2 2 (some .boolean)) (rmC 2 0 0) (va_Pc [.ref x0, .int x1] (CU T g d)) (Qc T (some (.int v)) g d) 0 0 (cA T) :=
  c_met [.ref x0, .int x1] RX6 (by decide) rfl (Nat.le_of_ble_eq_true rfl) (fun K hl hR hr C B hQ => w_X6_is_2_E _ _ C B hr hR hQ _ _ hf)
def f_X6_of_L2 (n : Nat) (g : CG) (d : CD) : Nat → Nat → Nat → Int32 → Int32 → Option Int32
  | 0, _, _, _, _ => none
  | m + 1, x0, x1, x2, x3 => if x2 ≤ x3 then (some (-1 : Int32)) else (if ht g x1 = 101 then if inb x3 (hn g x1) = true then if rdT (ht g x0) = true then if (lg_cmp (hl d x1 (Int32.toNatClampNeg x3)) (hl d x0 6)) = 0 then (some x3) else (f_X6_of_L2 n g d m x0 x1 x2 (x3 + (1 : Int32))) else none else none else none)
set_option maxHeartbeats 4000000 in
theorem w_X6_of_2 {K : KT} {T : CT} {r : Int32} (n : Nat) (g : CG) (d : CD) (C : Kok K cX6_of 4 RX6) (B : CB K T) (hr : (kMe K).sig.returnType = (some .int)) (dK : kR K = rmC 2 0 0) (hQ : KQc K T (some (.int r)) 0 0 g d) : ∀ (m : Nat) (x0 : Nat) (x1 : Nat) (x2 : Int32) (x3 : Int32) (hf : f_X6_of_L2 n g d m x0 x1 x2 x3 = some r), XJ K 4 (Wc K T 0 0 g d) 2 [(0, .ref x0), (1, .ref x1), (2, .int x2), (3, .int x3)] [] := by
  intro m
  induction m with
  | zero => intro x0 x1 x2 x3 hf; cases hf
  | succ m ih =>
    intro x0 x1 x2 x3 hf
    rw [f_X6_of_L2] at hf
    refine x_iload_n C dX6_of_2 3 rfl ?_
    refine x_iload_n C dX6_of_3 2 rfl ?_
    refine x_icmp_ge (tgt := 26) C dX6_of_4 (by decide) (fun c1 => ?_) (fun c1 => ?_)
    · have hf := pf_t c1 hf
      refine x_iconst (-1 : Int32) C dX6_of_26 (by decide) ?_
      obtain rfl := Option.some.inj hf
      exact c_iret C hr hQ dX6_of_27
    · have hf := pf_f c1 hf
      refine x_aload_n C dX6_of_7 1 rfl ?_
      refine x_iload_n C dX6_of_8 3 rfl ?_
      obtain ⟨t2, hf⟩ := pf_ch hf
      obtain ⟨h3, hf⟩ := pf_in hf
      refine ca_lld C B t2 h3 dX6_of_9 ?_
      refine x_aload_n C dX6_of_10 0 rfl ?_
      obtain ⟨t4, hf⟩ := pf_ch hf
      refine cgR_6 C B t4 (flo C q507) fsm dX6_of_11 ?_
      refine x_lcmp C dX6_of_14 ?_
      refine x_if_ne (tgt := 20) C dX6_of_15 (by decide) (fun c5 => ?_) (fun c5 => ?_)
      · have hf := pf_f c5 hf
        refine x_inc (c := (1 : Int32)) (L' := [(0, .ref x0), (1, .ref x1), (2, .int x2), (3, .int (x3 + (1 : Int32)))]) C dX6_of_20 3 rfl (by decide) (Nat.le_of_ble_eq_true rfl) [1, 2, 3, 0] rfl ?_
        refine x_goto (tgt := 2) C dX6_of_23 (by decide) ?_
        exact ih x0 x1 x2 (x3 + (1 : Int32)) hf
      · have hf := pf_t c5 hf
        refine x_iload_n C dX6_of_18 3 rfl ?_
        obtain rfl := Option.some.inj hf
        exact c_iret C hr hQ dX6_of_19
def f_X6_of (n : Nat) (g : CG) (d : CD) (x0 : Nat) (x1 : Nat) (x2 : Int32) : Option Int32 := f_X6_of_L2 n g d n x0 x1 x2 (0 : Int32)
set_option maxHeartbeats 4000000 in
theorem w_X6_of_E {K : KT} {T : CT} {r : Int32} (n : Nat) (g : CG) (d : CD) (C : Kok K cX6_of 4 RX6) (B : CB K T) (hr : (kMe K).sig.returnType = (some .int)) (dK : kR K = rmC 2 0 0) (hQ : KQc K T (some (.int r)) 0 0 g d) (x0 : Nat) (x1 : Nat) (x2 : Int32) (hf : f_X6_of n g d x0 x1 x2 = some r) : XJ K 4 (Wc K T 0 0 g d) 0 [(0, .ref x0), (1, .ref x1), (2, .int x2)] [] := by
  unfold f_X6_of at hf
  refine x_iconst (0 : Int32) C dX6_of_0 (by decide) ?_
  refine x_istore_n (L' := [(0, .ref x0), (1, .ref x1), (2, .int x2), (3, .int (0 : Int32))]) C dX6_of_1 (Nat.le_of_ble_eq_true rfl) [1, 2, 3, 0] rfl ?_
  exact w_X6_of_2 n g d C B hr dK hQ n x0 x1 x2 (0 : Int32) hf
theorem met_X6_of {T : CT} {v : Int32} {n : Nat} {g : CG} {d : CD} {x0 : Nat} {x1 : Nat} {x2 : Int32} {l : Launch} (hf : f_X6_of n g d x0 x1 x2 = some v) : Met l yX6_of (ws_ yX6_of cX6_of 4 (some .int)) (rmC 2 0 0) (va_Pc [.ref x0, .ref x1, .int x2] (CU T g d)) (Qc T (some (.int v)) g d) 0 0 (cA T) :=
  c_met [.ref x0, .ref x1, .int x2] RX6 (by decide) rfl (Nat.le_of_ble_eq_true rfl) (fun K hl hR hr C B hQ => w_X6_of_E _ _ _ C B hr hR hQ _ _ _ hf)
def f_X6_wrong (g : CG) (x0 : Nat) (x1 : Int32) (d : CD) : Option (Nat × CD) := if rdT (ht g x0) = true then (hr g x0 7).bind fun p2 => if ht g p2 = 1 then (hr g p2 3).bind fun p4 => if ht g p4 = 2 then ev (wi d p4 6 x1) fun s6 => ev (wi s6 p4 7 (hi s6 x0 2)) fun s7 => some (p4, s7) else none else none else none
set_option maxHeartbeats 4000000 in
theorem w_X6_wrong_E {K : KT} {T : CT} {r : Nat} {τ : CD} (g : CG) (C : Kok K cX6_wrong 2 RX6) (B : CB K T) (hr : (kMe K).sig.returnType = (some (.object "StatueRent$Fault"))) (dK : kR K = rmC 2 0 0) (hQ : KQc K T (some (.ref r)) 0 0 g τ) (x0 : Nat) (x1 : Int32) (d : CD) (hf : f_X6_wrong g x0 x1 d = some (r, τ)) : XJ K 2 (Wc K T 0 0 g d) 0 [(0, .ref x0), (1, .int x1)] [] := by
  unfold f_X6_wrong at hf
  refine x_aload_n C dX6_wrong_0 0 rfl ?_
  obtain ⟨t1, hf⟩ := pf_ch hf
  obtain ⟨p2, ep2, hf⟩ := pf_b hf
  refine cgR_7 C B t1 (flo C q508) fsm ep2 dX6_wrong_1 ?_
  obtain ⟨t3, hf⟩ := pf_ch hf
  obtain ⟨p4, ep4, hf⟩ := pf_b hf
  refine cg1_3 C B t3 (fln B q615) fsm ep4 dX6_wrong_4 ?_
  refine x_iload_n C dX6_wrong_7 1 rfl ?_
  obtain ⟨t5, hf⟩ := pf_ch hf
  refine cp2_6 C B t5 (flo C q212) fsm dX6_wrong_8 ?_
  obtain ⟨s6, es6, hf⟩ := pf_e hf
  refine c_ren es6 ?_
  refine x_aload_n C dX6_wrong_11 0 rfl ?_
  refine cgR_7 C B t1 (flo C q508) fsm ep2 dX6_wrong_12 ?_
  refine cg1_3 C B t3 (fln B q615) fsm ep4 dX6_wrong_15 ?_
  refine x_aload_n C dX6_wrong_18 0 rfl ?_
  refine cgR_2 C B t1 (flo C q493) fsm dX6_wrong_19 ?_
  refine cp2_7 C B t5 (flo C q214) fsm dX6_wrong_22 ?_
  obtain ⟨s7, es7, hf⟩ := pf_e hf
  refine c_ren es7 ?_
  refine x_aload_n C dX6_wrong_25 0 rfl ?_
  refine cgR_7 C B t1 (flo C q508) fsm ep2 dX6_wrong_26 ?_
  refine cg1_3 C B t3 (fln B q615) fsm ep4 dX6_wrong_29 ?_
  obtain ⟨rfl, rfl⟩ := Prod.mk.inj (Option.some.inj hf)
  exact c_aret C hr (Or.inl ⟨_, rfl⟩) hQ dX6_wrong_32
theorem met_X6_wrong {T : CT} {v : (Nat × CD)} {g : CG} {d : CD} {x0 : Nat} {x1 : Int32} {l : Launch} (hf : f_X6_wrong g x0 x1 d = some v) : Met l yX6_wrong (ws_ yX6_wrong cX6_wrong 2 (some (.object "StatueRent$Fault"))) (rmC 2 0 0) (va_Pc [.ref x0, .int x1] (CU T g d)) (Qc T (some (.ref v.1)) g v.2) 0 0 (cA T) :=
  c_met [.ref x0, .int x1] RX6 (by decide) rfl (Nat.le_of_ble_eq_true rfl) (fun K hl hR hr C B hQ => w_X6_wrong_E _ C B hr hR hQ _ _ _ hf)
def f_X7_isRoom (g : CG) (d : CD) (x0 : Nat) (x1 : Int32) : Option Int32 := if x1 = (0 : Int32) then (if ht g x0 = 6 then (hr g x0 8).bind fun p7 => if ht g p7 = 3 then if (8 : Int32) ≤ (hi d p7 17) then (some (0 : Int32)) else (some (1 : Int32)) else none else none) else (if x1 = (1 : Int32) then (if ht g x0 = 6 then (hr g x0 8).bind fun p11 => if ht g p11 = 3 then if (16 : Int32) ≤ (hi d p11 18) then (some (0 : Int32)) else (some (1 : Int32)) else none else none) else (if x1 = (2 : Int32) then (if ht g x0 = 6 then (hr g x0 8).bind fun p15 => if ht g p15 = 3 then if (5 : Int32) ≤ (hi d p15 19) then (some (0 : Int32)) else (some (1 : Int32)) else none else none) else (if x1 = (3 : Int32) then (if ht g x0 = 6 then (hr g x0 8).bind fun p19 => if ht g p19 = 3 then if (8 : Int32) ≤ (hi d p19 20) then (some (0 : Int32)) else (some (1 : Int32)) else none else none) else (if x1 = (4 : Int32) then (if ht g x0 = 6 then (hr g x0 8).bind fun p23 => if ht g p23 = 3 then if (8 : Int32) ≤ (hi d p23 21) then (some (0 : Int32)) else (some (1 : Int32)) else none else none) else (some (1 : Int32))))))
set_option maxHeartbeats 4000000 in
theorem w_X7_isRoom_E {K : KT} {T : CT} {r : Int32} (g : CG) (d : CD) (C : Kok K cX7_isRoom 2 RX7) (B : CB K T) (hr : (kMe K).sig.returnType = (some .boolean)) (dK : kR K = rmC 2 0 0) (hQ : KQc K T (some (.int r)) 0 0 g d) (x0 : Nat) (x1 : Int32) (hf : f_X7_isRoom g d x0 x1 = some r) : XJ K 2 (Wc K T 0 0 g d) 0 [(0, .ref x0), (1, .int x1)] [] := by
  unfold f_X7_isRoom at hf
  refine x_iload_n C dX7_isRoom_0 1 rfl ?_
  by_cases c1 : x1 = (0 : Int32)
  · have hf := pf_t c1 hf
    refine x_tableIn (off := 35) (tgt := 36) C dX7_isRoom_1 (by rw [c1]; decide) (by rw [c1]; decide) (by rw [c1]; decide) (by decide) ?_
    refine x_aload_n C dX7_isRoom_36 0 rfl ?_
    obtain ⟨t6, hf⟩ := pf_ch hf
    obtain ⟨p7, ep7, hf⟩ := pf_b hf
    refine cg6_8 C B t6 (flo C q488) fsm ep7 dX7_isRoom_37 ?_
    obtain ⟨t8, hf⟩ := pf_ch hf
    refine cg3_17 C B t8 (fln B q323) fsm dX7_isRoom_40 ?_
    refine x_bipush (8 : Int32) C dX7_isRoom_43 (by decide) ?_
    refine x_icmp_ge (tgt := 52) C dX7_isRoom_45 (by decide) (fun c9 => ?_) (fun c9 => ?_)
    · have hf := pf_t c9 hf
      refine x_iconst (0 : Int32) C dX7_isRoom_52 (by decide) ?_
      obtain rfl := Option.some.inj hf
      exact c_zret C hr (Or.inl rfl) hQ dX7_isRoom_53
    · have hf := pf_f c9 hf
      refine x_iconst (1 : Int32) C dX7_isRoom_48 (by decide) ?_
      refine x_goto (tgt := 53) C dX7_isRoom_49 (by decide) ?_
      obtain rfl := Option.some.inj hf
      exact c_zret C hr (Or.inr rfl) hQ dX7_isRoom_53
  · have hf := pf_f c1 hf
    by_cases c2 : x1 = (1 : Int32)
    · have hf := pf_t c2 hf
      refine x_tableIn (off := 53) (tgt := 54) C dX7_isRoom_1 (by rw [c2]; decide) (by rw [c2]; decide) (by rw [c2]; decide) (by decide) ?_
      refine x_aload_n C dX7_isRoom_54 0 rfl ?_
      obtain ⟨t10, hf⟩ := pf_ch hf
      obtain ⟨p11, ep11, hf⟩ := pf_b hf
      refine cg6_8 C B t10 (flo C q488) fsm ep11 dX7_isRoom_55 ?_
      obtain ⟨t12, hf⟩ := pf_ch hf
      refine cg3_18 C B t12 (fln B q327) fsm dX7_isRoom_58 ?_
      refine x_bipush (16 : Int32) C dX7_isRoom_61 (by decide) ?_
      refine x_icmp_ge (tgt := 70) C dX7_isRoom_63 (by decide) (fun c13 => ?_) (fun c13 => ?_)
      · have hf := pf_t c13 hf
        refine x_iconst (0 : Int32) C dX7_isRoom_70 (by decide) ?_
        obtain rfl := Option.some.inj hf
        exact c_zret C hr (Or.inl rfl) hQ dX7_isRoom_71
      · have hf := pf_f c13 hf
        refine x_iconst (1 : Int32) C dX7_isRoom_66 (by decide) ?_
        refine x_goto (tgt := 71) C dX7_isRoom_67 (by decide) ?_
        obtain rfl := Option.some.inj hf
        exact c_zret C hr (Or.inr rfl) hQ dX7_isRoom_71
    · have hf := pf_f c2 hf
      by_cases c3 : x1 = (2 : Int32)
      · have hf := pf_t c3 hf
        refine x_tableIn (off := 71) (tgt := 72) C dX7_isRoom_1 (by rw [c3]; decide) (by rw [c3]; decide) (by rw [c3]; decide) (by decide) ?_
        refine x_aload_n C dX7_isRoom_72 0 rfl ?_
        obtain ⟨t14, hf⟩ := pf_ch hf
        obtain ⟨p15, ep15, hf⟩ := pf_b hf
        refine cg6_8 C B t14 (flo C q488) fsm ep15 dX7_isRoom_73 ?_
        obtain ⟨t16, hf⟩ := pf_ch hf
        refine cg3_19 C B t16 (fln B q329) fsm dX7_isRoom_76 ?_
        refine x_iconst (5 : Int32) C dX7_isRoom_79 (by decide) ?_
        refine x_icmp_ge (tgt := 87) C dX7_isRoom_80 (by decide) (fun c17 => ?_) (fun c17 => ?_)
        · have hf := pf_t c17 hf
          refine x_iconst (0 : Int32) C dX7_isRoom_87 (by decide) ?_
          obtain rfl := Option.some.inj hf
          exact c_zret C hr (Or.inl rfl) hQ dX7_isRoom_88
        · have hf := pf_f c17 hf
          refine x_iconst (1 : Int32) C dX7_isRoom_83 (by decide) ?_
          refine x_goto (tgt := 88) C dX7_isRoom_84 (by decide) ?_
          obtain rfl := Option.some.inj hf
          exact c_zret C hr (Or.inr rfl) hQ dX7_isRoom_88
      · have hf := pf_f c3 hf
        by_cases c4 : x1 = (3 : Int32)
        · have hf := pf_t c4 hf
          refine x_tableIn (off := 88) (tgt := 89) C dX7_isRoom_1 (by rw [c4]; decide) (by rw [c4]; decide) (by rw [c4]; decide) (by decide) ?_
          refine x_aload_n C dX7_isRoom_89 0 rfl ?_
          obtain ⟨t18, hf⟩ := pf_ch hf
          obtain ⟨p19, ep19, hf⟩ := pf_b hf
          refine cg6_8 C B t18 (flo C q488) fsm ep19 dX7_isRoom_90 ?_
          obtain ⟨t20, hf⟩ := pf_ch hf
          refine cg3_20 C B t20 (fln B q336) fsm dX7_isRoom_93 ?_
          refine x_bipush (8 : Int32) C dX7_isRoom_96 (by decide) ?_
          refine x_icmp_ge (tgt := 105) C dX7_isRoom_98 (by decide) (fun c21 => ?_) (fun c21 => ?_)
          · have hf := pf_t c21 hf
            refine x_iconst (0 : Int32) C dX7_isRoom_105 (by decide) ?_
            obtain rfl := Option.some.inj hf
            exact c_zret C hr (Or.inl rfl) hQ dX7_isRoom_106
          · have hf := pf_f c21 hf
            refine x_iconst (1 : Int32) C dX7_isRoom_101 (by decide) ?_
            refine x_goto (tgt := 106) C dX7_isRoom_102 (by decide) ?_
            obtain rfl := Option.some.inj hf
            exact c_zret C hr (Or.inr rfl) hQ dX7_isRoom_106
        · have hf := pf_f c4 hf
          by_cases c5 : x1 = (4 : Int32)
          · have hf := pf_t c5 hf
            refine x_tableIn (off := 106) (tgt := 107) C dX7_isRoom_1 (by rw [c5]; decide) (by rw [c5]; decide) (by rw [c5]; decide) (by decide) ?_
            refine x_aload_n C dX7_isRoom_107 0 rfl ?_
            obtain ⟨t22, hf⟩ := pf_ch hf
            obtain ⟨p23, ep23, hf⟩ := pf_b hf
            refine cg6_8 C B t22 (flo C q488) fsm ep23 dX7_isRoom_108 ?_
            obtain ⟨t24, hf⟩ := pf_ch hf
            refine cg3_21 C B t24 (fln B q339) fsm dX7_isRoom_111 ?_
            refine x_bipush (8 : Int32) C dX7_isRoom_114 (by decide) ?_
            refine x_icmp_ge (tgt := 123) C dX7_isRoom_116 (by decide) (fun c25 => ?_) (fun c25 => ?_)
            · have hf := pf_t c25 hf
              refine x_iconst (0 : Int32) C dX7_isRoom_123 (by decide) ?_
              obtain rfl := Option.some.inj hf
              exact c_zret C hr (Or.inl rfl) hQ dX7_isRoom_124
            · have hf := pf_f c25 hf
              refine x_iconst (1 : Int32) C dX7_isRoom_119 (by decide) ?_
              refine x_goto (tgt := 124) C dX7_isRoom_120 (by decide) ?_
              obtain rfl := Option.some.inj hf
              exact c_zret C hr (Or.inr rfl) hQ dX7_isRoom_124
          · have hf := pf_f c5 hf
            refine x_tableOut (tgt := 125) C dX7_isRoom_1 (by have := lv_neT c1 (show (0 : Int32).toInt = (0 : Int) by decide); have := lv_neT c2 (show (1 : Int32).toInt = (1 : Int) by decide); have := lv_neT c3 (show (2 : Int32).toInt = (2 : Int) by decide); have := lv_neT c4 (show (3 : Int32).toInt = (3 : Int) by decide); have := lv_neT c5 (show (4 : Int32).toInt = (4 : Int) by decide); omega) (by decide) ?_
            refine x_iconst (1 : Int32) C dX7_isRoom_125 (by decide) ?_
            obtain rfl := Option.some.inj hf
            exact c_zret C hr (Or.inr rfl) hQ dX7_isRoom_126
theorem bz_X7_isRoom_E {r : Int32} {g : CG} {d : CD} {x0 : Nat} {x1 : Int32} (hf : f_X7_isRoom g d x0 x1 = some r) : r = 0 ∨ r = 1 := by
  unfold f_X7_isRoom at hf
  by_cases c1 : x1 = (0 : Int32)
  · have hf := pf_t c1 hf
    obtain ⟨t6, hf⟩ := pf_ch hf
    obtain ⟨p7, ep7, hf⟩ := pf_b hf
    obtain ⟨t8, hf⟩ := pf_ch hf
    by_cases c9 : (8 : Int32) ≤ (hi d p7 17)
    · have hf := pf_t c9 hf
      obtain rfl := Option.some.inj hf
      exact (Or.inl rfl)
    · have hf := pf_f c9 hf
      obtain rfl := Option.some.inj hf
      exact (Or.inr rfl)
  · have hf := pf_f c1 hf
    by_cases c2 : x1 = (1 : Int32)
    · have hf := pf_t c2 hf
      obtain ⟨t10, hf⟩ := pf_ch hf
      obtain ⟨p11, ep11, hf⟩ := pf_b hf
      obtain ⟨t12, hf⟩ := pf_ch hf
      by_cases c13 : (16 : Int32) ≤ (hi d p11 18)
      · have hf := pf_t c13 hf
        obtain rfl := Option.some.inj hf
        exact (Or.inl rfl)
      · have hf := pf_f c13 hf
        obtain rfl := Option.some.inj hf
        exact (Or.inr rfl)
    · have hf := pf_f c2 hf
      by_cases c3 : x1 = (2 : Int32)
      · have hf := pf_t c3 hf
        obtain ⟨t14, hf⟩ := pf_ch hf
        obtain ⟨p15, ep15, hf⟩ := pf_b hf
        obtain ⟨t16, hf⟩ := pf_ch hf
        by_cases c17 : (5 : Int32) ≤ (hi d p15 19)
        · have hf := pf_t c17 hf
          obtain rfl := Option.some.inj hf
          exact (Or.inl rfl)
        · have hf := pf_f c17 hf
          obtain rfl := Option.some.inj hf
          exact (Or.inr rfl)
      · have hf := pf_f c3 hf
        by_cases c4 : x1 = (3 : Int32)
        · have hf := pf_t c4 hf
          obtain ⟨t18, hf⟩ := pf_ch hf
          obtain ⟨p19, ep19, hf⟩ := pf_b hf
          obtain ⟨t20, hf⟩ := pf_ch hf
          by_cases c21 : (8 : Int32) ≤ (hi d p19 20)
          · have hf := pf_t c21 hf
            obtain rfl := Option.some.inj hf
            exact (Or.inl rfl)
          · have hf := pf_f c21 hf
            obtain rfl := Option.some.inj hf
            exact (Or.inr rfl)
        · have hf := pf_f c4 hf
          by_cases c5 : x1 = (4 : Int32)
          · have hf := pf_t c5 hf
            obtain ⟨t22, hf⟩ := pf_ch hf
            obtain ⟨p23, ep23, hf⟩ := pf_b hf
            obtain ⟨t24, hf⟩ := pf_ch hf
            by_cases c25 : (8 : Int32) ≤ (hi d p23 21)
            · have hf := pf_t c25 hf
              obtain rfl := Option.some.inj hf
              exact (Or.inl rfl)
            · have hf := pf_f c25 hf
              obtain rfl := Option.some.inj hf
              exact (Or.inr rfl)
          · have hf := pf_f c5 hf
            obtain rfl := Option.some.inj hf
            exact (Or.inr rfl)
theorem met_X7_isRoom {T : CT} {v : Int32} {g : CG} {d : CD} {x0 : Nat} {x1 : Int32} {l : Launch} (hf : f_X7_isRoom g d x0 x1 = some v) : Met l yX7_isRoom (ws_ yX7_isRoom cX7_isRoom 2 (some .boolean)) (rmC 2 0 0) (va_Pc [.ref x0, .int x1] (CU T g d)) (Qc T (some (.int v)) g d) 0 0 (cA T) :=
  c_met [.ref x0, .int x1] RX7 (by decide) rfl (Nat.le_of_ble_eq_true rfl) (fun K hl hR hr C B hQ => w_X7_isRoom_E _ _ C B hr hR hQ _ _ hf)
