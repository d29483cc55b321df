set_option maxRecDepth 100000
theorem cz : 0 + 0 ≤ 0 ∧ 0 + 0 ≤ 0 := ⟨Nat.le_refl _, Nat.le_refl _⟩
def f_J10_bitCount (x0 : Int32) : Int32 := ev (x0 - ((j_ushr x0 (1 : Int32)) &&& (1431655765 : Int32))) fun v1 => ev ((v1 &&& (858993459 : Int32)) + ((j_ushr v1 (2 : Int32)) &&& (858993459 : Int32))) fun v2 => ev ((v2 + (j_ushr v2 (4 : Int32))) &&& (252645135 : Int32)) fun v3 => ev (v3 + (j_ushr v3 (8 : Int32))) fun v4 => ev (v4 + (j_ushr v4 (16 : Int32))) fun v5 => v5 &&& (63 : Int32)
set_option maxHeartbeats 4000000 in
theorem w_J10_bitCount_E {K : KT} {T : CT} {r : Int32} {g : CG} {d : CD} (C : Kok K cJ10_bitCount 1 RJ10) (B : CB K T) (hr : (kMe K).sig.returnType = (some .int)) (dK : kR K = rmC 2 0 0) (hQ : KQc K T (some (.int r)) 0 0 g d) (x0 : Int32) (hf : f_J10_bitCount x0 = r) : XJ K 1 (Wc K T 0 0 g d) 0 [(0, .int x0)] [] := by
  unfold f_J10_bitCount at hf
  refine x_iload_n C dJ10_bitCount_0 0 rfl ?_
  refine x_iload_n C dJ10_bitCount_1 0 rfl ?_
  refine x_iconst (1 : Int32) C dJ10_bitCount_2 (by decide) ?_
  refine x_iushr C dJ10_bitCount_3 ?_
  refine x_ldcw C q1258 dJ10_bitCount_4 ?_
  refine x_iand C dJ10_bitCount_7 ?_
  refine x_isub C dJ10_bitCount_8 ?_
  obtain ⟨v1, ev1, hf⟩ := pf_e hf
  refine x_topir ev1 ?_
  refine x_istore_n (L' := [(0, .int v1)]) C dJ10_bitCount_9 (Nat.le_of_ble_eq_true rfl) [0] rfl ?_
  refine x_iload_n C dJ10_bitCount_10 0 rfl ?_
  refine x_ldcw C q1259 dJ10_bitCount_11 ?_
  refine x_iand C dJ10_bitCount_14 ?_
  refine x_iload_n C dJ10_bitCount_15 0 rfl ?_
  refine x_iconst (2 : Int32) C dJ10_bitCount_16 (by decide) ?_
  refine x_iushr C dJ10_bitCount_17 ?_
  refine x_ldcw C q1259 dJ10_bitCount_18 ?_
  refine x_iand C dJ10_bitCount_21 ?_
  refine x_iadd C dJ10_bitCount_22 ?_
  obtain ⟨v2, ev2, hf⟩ := pf_e hf
  refine x_topir ev2 ?_
  refine x_istore_n (L' := [(0, .int v2)]) C dJ10_bitCount_23 (Nat.le_of_ble_eq_true rfl) [0] rfl ?_
  refine x_iload_n C dJ10_bitCount_24 0 rfl ?_
  refine x_iload_n C dJ10_bitCount_25 0 rfl ?_
  refine x_iconst (4 : Int32) C dJ10_bitCount_26 (by decide) ?_
  refine x_iushr C dJ10_bitCount_27 ?_
  refine x_iadd C dJ10_bitCount_28 ?_
  refine x_ldcw C q1260 dJ10_bitCount_29 ?_
  refine x_iand C dJ10_bitCount_32 ?_
  obtain ⟨v3, ev3, hf⟩ := pf_e hf
  refine x_topir ev3 ?_
  refine x_istore_n (L' := [(0, .int v3)]) C dJ10_bitCount_33 (Nat.le_of_ble_eq_true rfl) [0] rfl ?_
  refine x_iload_n C dJ10_bitCount_34 0 rfl ?_
  refine x_iload_n C dJ10_bitCount_35 0 rfl ?_
  refine x_bipush (8 : Int32) C dJ10_bitCount_36 (by decide) ?_
  refine x_iushr C dJ10_bitCount_38 ?_
  refine x_iadd C dJ10_bitCount_39 ?_
  obtain ⟨v4, ev4, hf⟩ := pf_e hf
  refine x_topir ev4 ?_
  refine x_istore_n (L' := [(0, .int v4)]) C dJ10_bitCount_40 (Nat.le_of_ble_eq_true rfl) [0] rfl ?_
  refine x_iload_n C dJ10_bitCount_41 0 rfl ?_
  refine x_iload_n C dJ10_bitCount_42 0 rfl ?_
  refine x_bipush (16 : Int32) C dJ10_bitCount_43 (by decide) ?_
  refine x_iushr C dJ10_bitCount_45 ?_
  refine x_iadd C dJ10_bitCount_46 ?_
  obtain ⟨v5, ev5, hf⟩ := pf_e hf
  refine x_topir ev5 ?_
  refine x_istore_n (L' := [(0, .int v5)]) C dJ10_bitCount_47 (Nat.le_of_ble_eq_true rfl) [0] rfl ?_
  refine x_iload_n C dJ10_bitCount_48 0 rfl ?_
  refine x_bipush (63 : Int32) C dJ10_bitCount_49 (by decide) ?_
  refine x_iand C dJ10_bitCount_51 ?_
  subst hf
  exact c_iret C hr hQ dJ10_bitCount_52
theorem met_J10_bitCount {T : CT} {v : Int32} {g : CG} {d : CD} {x0 : Int32} {l : Launch} (hf : f_J10_bitCount x0 = v) : Met l yJ10_bitCount (ws_ yJ10_bitCount cJ10_bitCount 1 (some .int)) (rmC 2 0 0) (va_Pc [.int x0] (CU T g d)) (Qc T (some (.int v)) g d) 0 0 (cA T) :=
  c_met [.int x0] RJ10 (by decide) rfl (Nat.le_of_ble_eq_true rfl) (fun K hl hR hr C B hQ => w_J10_bitCount_E C B hr hR hQ _ hf)
def f_J10_numberOfTrailingZeros_L62 (x0 : Int32) (x1 : Int32) : Int32 := if x0 ≤ (4 : Int32) then (x1 + (j_ushr x0 (1 : Int32))) else (ev (j_ushr x0 (2 : Int32)) fun v2 => (x1 + (2 : Int32)) + (j_ushr v2 (1 : Int32)))
set_option maxHeartbeats 4000000 in
theorem w_J10_numberOfTrailingZeros_62 {K : KT} {T : CT} {r : Int32} {g : CG} {d : CD} (C : Kok K cJ10_numberOfTrailingZeros 2 RJ10) (B : CB K T) (hr : (kMe K).sig.returnType = (some .int)) (dK : kR K = rmC 2 0 0) (hQ : KQc K T (some (.int r)) 0 0 g d) (x0 : Int32) (x1 : Int32) (hf : f_J10_numberOfTrailingZeros_L62 x0 x1 = r) : XJ K 2 (Wc K T 0 0 g d) 62 [(0, .int x0), (1, .int x1)] [] := by
  unfold f_J10_numberOfTrailingZeros_L62 at hf
  refine x_iload_n C dJ10_numberOfTrailingZeros_62 0 rfl ?_
  refine x_iconst (4 : Int32) C dJ10_numberOfTrailingZeros_63 (by decide) ?_
  refine x_icmp_le (tgt := 74) C dJ10_numberOfTrailingZeros_64 (by decide) (fun c1 => ?_) (fun c1 => ?_)
  · have hf := pf_t c1 hf
    refine x_iload_n C dJ10_numberOfTrailingZeros_74 1 rfl ?_
    refine x_iload_n C dJ10_numberOfTrailingZeros_75 0 rfl ?_
    refine x_iconst (1 : Int32) C dJ10_numberOfTrailingZeros_76 (by decide) ?_
    refine x_iushr C dJ10_numberOfTrailingZeros_77 ?_
    refine x_iadd C dJ10_numberOfTrailingZeros_78 ?_
    subst hf
    exact c_iret C hr hQ dJ10_numberOfTrailingZeros_79
  · have hf := pf_f c1 hf
    refine x_inc (c := (2 : Int32)) (L' := [(0, .int x0), (1, .int (x1 + (2 : Int32)))]) C dJ10_numberOfTrailingZeros_67 1 rfl (by decide) (Nat.le_of_ble_eq_true rfl) [1, 0] rfl ?_
    refine x_iload_n C dJ10_numberOfTrailingZeros_70 0 rfl ?_
    refine x_iconst (2 : Int32) C dJ10_numberOfTrailingZeros_71 (by decide) ?_
    refine x_iushr C dJ10_numberOfTrailingZeros_72 ?_
    obtain ⟨v2, ev2, hf⟩ := pf_e hf
    refine x_topir ev2 ?_
    refine x_istore_n (L' := [(0, .int v2), (1, .int (x1 + (2 : Int32)))]) C dJ10_numberOfTrailingZeros_73 (Nat.le_of_ble_eq_true rfl) [0, 1] rfl ?_
    refine x_iload_n C dJ10_numberOfTrailingZeros_74 1 rfl ?_
    refine x_iload_n C dJ10_numberOfTrailingZeros_75 0 rfl ?_
    refine x_iconst (1 : Int32) C dJ10_numberOfTrailingZeros_76 (by decide) ?_
    refine x_iushr C dJ10_numberOfTrailingZeros_77 ?_
    refine x_iadd C dJ10_numberOfTrailingZeros_78 ?_
    subst hf
    exact c_iret C hr hQ dJ10_numberOfTrailingZeros_79
def f_J10_numberOfTrailingZeros_L34 (x0 : Int32) (x1 : Int32) : Int32 := if x0 ≤ (256 : Int32) then (if x0 ≤ (16 : Int32) then (f_J10_numberOfTrailingZeros_L62 x0 x1) else (ev (j_ushr x0 (4 : Int32)) fun v3 => f_J10_numberOfTrailingZeros_L62 v3 (x1 + (4 : Int32)))) else (ev (j_ushr x0 (8 : Int32)) fun v4 => if v4 ≤ (16 : Int32) then (f_J10_numberOfTrailingZeros_L62 v4 (x1 + (8 : Int32))) else (ev (j_ushr v4 (4 : Int32)) fun v6 => f_J10_numberOfTrailingZeros_L62 v6 ((x1 + (8 : Int32)) + (4 : Int32))))
set_option maxHeartbeats 4000000 in
theorem w_J10_numberOfTrailingZeros_34 {K : KT} {T : CT} {r : Int32} {g : CG} {d : CD} (C : Kok K cJ10_numberOfTrailingZeros 2 RJ10) (B : CB K T) (hr : (kMe K).sig.returnType = (some .int)) (dK : kR K = rmC 2 0 0) (hQ : KQc K T (some (.int r)) 0 0 g d) (x0 : Int32) (x1 : Int32) (hf : f_J10_numberOfTrailingZeros_L34 x0 x1 = r) : XJ K 2 (Wc K T 0 0 g d) 34 [(0, .int x0), (1, .int x1)] [] := by
  unfold f_J10_numberOfTrailingZeros_L34 at hf
  refine x_iload_n C dJ10_numberOfTrailingZeros_34 0 rfl ?_
  refine x_sipush (256 : Int32) C dJ10_numberOfTrailingZeros_35 (by decide) ?_
  refine x_icmp_le (tgt := 49) C dJ10_numberOfTrailingZeros_38 (by decide) (fun c1 => ?_) (fun c1 => ?_)
  · have hf := pf_t c1 hf
    refine x_iload_n C dJ10_numberOfTrailingZeros_49 0 rfl ?_
    refine x_bipush (16 : Int32) C dJ10_numberOfTrailingZeros_50 (by decide) ?_
    refine x_icmp_le (tgt := 62) C dJ10_numberOfTrailingZeros_52 (by decide) (fun c2 => ?_) (fun c2 => ?_)
    · have hf := pf_t c2 hf
      exact w_J10_numberOfTrailingZeros_62 C B hr dK hQ x0 x1 hf
    · have hf := pf_f c2 hf
      refine x_inc (c := (4 : Int32)) (L' := [(0, .int x0), (1, .int (x1 + (4 : Int32)))]) C dJ10_numberOfTrailingZeros_55 1 rfl (by decide) (Nat.le_of_ble_eq_true rfl) [1, 0] rfl ?_
      refine x_iload_n C dJ10_numberOfTrailingZeros_58 0 rfl ?_
      refine x_iconst (4 : Int32) C dJ10_numberOfTrailingZeros_59 (by decide) ?_
      refine x_iushr C dJ10_numberOfTrailingZeros_60 ?_
      obtain ⟨v3, ev3, hf⟩ := pf_e hf
      refine x_topir ev3 ?_
      refine x_istore_n (L' := [(0, .int v3), (1, .int (x1 + (4 : Int32)))]) C dJ10_numberOfTrailingZeros_61 (Nat.le_of_ble_eq_true rfl) [0, 1] rfl ?_
      exact w_J10_numberOfTrailingZeros_62 C B hr dK hQ v3 (x1 + (4 : Int32)) hf
  · have hf := pf_f c1 hf
    refine x_inc (c := (8 : Int32)) (L' := [(0, .int x0), (1, .int (x1 + (8 : Int32)))]) C dJ10_numberOfTrailingZeros_41 1 rfl (by decide) (Nat.le_of_ble_eq_true rfl) [1, 0] rfl ?_
    refine x_iload_n C dJ10_numberOfTrailingZeros_44 0 rfl ?_
    refine x_bipush (8 : Int32) C dJ10_numberOfTrailingZeros_45 (by decide) ?_
    refine x_iushr C dJ10_numberOfTrailingZeros_47 ?_
    obtain ⟨v4, ev4, hf⟩ := pf_e hf
    refine x_topir ev4 ?_
    refine x_istore_n (L' := [(0, .int v4), (1, .int (x1 + (8 : Int32)))]) C dJ10_numberOfTrailingZeros_48 (Nat.le_of_ble_eq_true rfl) [0, 1] rfl ?_
    refine x_iload_n C dJ10_numberOfTrailingZeros_49 0 rfl ?_
    refine x_bipush (16 : Int32) C dJ10_numberOfTrailingZeros_50 (by decide) ?_
    refine x_icmp_le (tgt := 62) C dJ10_numberOfTrailingZeros_52 (by decide) (fun c5 => ?_) (fun c5 => ?_)
    · have hf := pf_t c5 hf
      exact w_J10_numberOfTrailingZeros_62 C B hr dK hQ v4 (x1 + (8 : Int32)) hf
    · have hf := pf_f c5 hf
      refine x_inc (c := (4 : Int32)) (L' := [(0, .int v4), (1, .int ((x1 + (8 : Int32)) + (4 : Int32)))]) C dJ10_numberOfTrailingZeros_55 1 rfl (by decide) (Nat.le_of_ble_eq_true rfl) [1, 0] rfl ?_
      refine x_iload_n C dJ10_numberOfTrailingZeros_58 0 rfl ?_
      refine x_iconst (4 : Int32) C dJ10_numberOfTrailingZeros_59 (by decide) ?_
      refine x_iushr C dJ10_numberOfTrailingZeros_60 ?_
      obtain ⟨v6, ev6, hf⟩ := pf_e hf
      refine x_topir ev6 ?_
      refine x_istore_n (L' := [(0, .int v6), (1, .int ((x1 + (8 : Int32)) + (4 : Int32)))]) C dJ10_numberOfTrailingZeros_61 (Nat.le_of_ble_eq_true rfl) [0, 1] rfl ?_
      exact w_J10_numberOfTrailingZeros_62 C B hr dK hQ v6 ((x1 + (8 : Int32)) + (4 : Int32)) hf
def f_J10_numberOfTrailingZeros (x0 : Int32) : Int32 := ev ((x0 ^^^ (-1 : Int32)) &&& (x0 - (1 : Int32))) fun v1 => if 0 < v1 then (if v1 ≤ (65536 : Int32) then (f_J10_numberOfTrailingZeros_L34 v1 (1 : Int32)) else (ev (j_ushr v1 (16 : Int32)) fun v4 => f_J10_numberOfTrailingZeros_L34 v4 ((1 : Int32) + (16 : Int32)))) else (v1 &&& (32 : Int32))
set_option maxHeartbeats 4000000 in
theorem w_J10_numberOfTrailingZeros_E {K : KT} {T : CT} {r : Int32} {g : CG} {d : CD} (C : Kok K cJ10_numberOfTrailingZeros 2 RJ10) (B : CB K T) (hr : (kMe K).sig.returnType = (some .int)) (dK : kR K = rmC 2 0 0) (hQ : KQc K T (some (.int r)) 0 0 g d) (x0 : Int32) (hf : f_J10_numberOfTrailingZeros x0 = r) : XJ K 2 (Wc K T 0 0 g d) 0 [(0, .int x0)] [] := by
  unfold f_J10_numberOfTrailingZeros at hf
  refine x_iload_n C dJ10_numberOfTrailingZeros_0 0 rfl ?_
  refine x_iconst (-1 : Int32) C dJ10_numberOfTrailingZeros_1 (by decide) ?_
  refine x_ixor C dJ10_numberOfTrailingZeros_2 ?_
  refine x_iload_n C dJ10_numberOfTrailingZeros_3 0 rfl ?_
  refine x_iconst (1 : Int32) C dJ10_numberOfTrailingZeros_4 (by decide) ?_
  refine x_isub C dJ10_numberOfTrailingZeros_5 ?_
  refine x_iand C dJ10_numberOfTrailingZeros_6 ?_
  obtain ⟨v1, ev1, hf⟩ := pf_e hf
  refine x_topir ev1 ?_
  refine x_istore_n (L' := [(0, .int v1)]) C dJ10_numberOfTrailingZeros_7 (Nat.le_of_ble_eq_true rfl) [0] rfl ?_
  refine x_iload_n C dJ10_numberOfTrailingZeros_8 0 rfl ?_
  refine x_if_gt (tgt := 17) C dJ10_numberOfTrailingZeros_9 (by decide) (fun c2 => ?_) (fun c2 => ?_)
  · have hf := pf_t c2 hf
    refine x_iconst (1 : Int32) C dJ10_numberOfTrailingZeros_17 (by decide) ?_
    refine x_istore_n (L' := [(0, .int v1), (1, .int (1 : Int32))]) C dJ10_numberOfTrailingZeros_18 (Nat.le_of_ble_eq_true rfl) [1, 0] rfl ?_
    refine x_iload_n C dJ10_numberOfTrailingZeros_19 0 rfl ?_
    refine x_ldcw C q1195 dJ10_numberOfTrailingZeros_20 ?_
    refine x_icmp_le (tgt := 34) C dJ10_numberOfTrailingZeros_23 (by decide) (fun c3 => ?_) (fun c3 => ?_)
    · have hf := pf_t c3 hf
      exact w_J10_numberOfTrailingZeros_34 C B hr dK hQ v1 (1 : Int32) hf
    · have hf := pf_f c3 hf
      refine x_inc (c := (16 : Int32)) (L' := [(0, .int v1), (1, .int ((1 : Int32) + (16 : Int32)))]) C dJ10_numberOfTrailingZeros_26 1 rfl (by decide) (Nat.le_of_ble_eq_true rfl) [1, 0] rfl ?_
      refine x_iload_n C dJ10_numberOfTrailingZeros_29 0 rfl ?_
      refine x_bipush (16 : Int32) C dJ10_numberOfTrailingZeros_30 (by decide) ?_
      refine x_iushr C dJ10_numberOfTrailingZeros_32 ?_
      obtain ⟨v4, ev4, hf⟩ := pf_e hf
      refine x_topir ev4 ?_
      refine x_istore_n (L' := [(0, .int v4), (1, .int ((1 : Int32) + (16 : Int32)))]) C dJ10_numberOfTrailingZeros_33 (Nat.le_of_ble_eq_true rfl) [0, 1] rfl ?_
      exact w_J10_numberOfTrailingZeros_34 C B hr dK hQ v4 ((1 : Int32) + (16 : Int32)) hf
  · have hf := pf_f c2 hf
    refine x_iload_n C dJ10_numberOfTrailingZeros_12 0 rfl ?_
    refine x_bipush (32 : Int32) C dJ10_numberOfTrailingZeros_13 (by decide) ?_
    refine x_iand C dJ10_numberOfTrailingZeros_15 ?_
    subst hf
    exact c_iret C hr hQ dJ10_numberOfTrailingZeros_16
theorem met_J10_numberOfTrailingZeros {T : CT} {v : Int32} {g : CG} {d : CD} {x0 : Int32} {l : Launch} (hf : f_J10_numberOfTrailingZeros x0 = v) : Met l yJ10_numberOfTrailingZeros (ws_ yJ10_numberOfTrailingZeros cJ10_numberOfTrailingZeros 2 (some .int)) (rmC 2 0 0) (va_Pc [.int x0] (CU T g d)) (Qc T (some (.int v)) g d) 0 0 (cA T) :=
  c_met [.int x0] RJ10 (by decide) rfl (Nat.le_of_ble_eq_true rfl) (fun K hl hR hr C B hQ => w_J10_numberOfTrailingZeros_E C B hr hR hQ _ hf)
def f_J10_stringSize_L16 (n : Nat) : Nat → Int32 → Int32 → Int32 → Int32 → Option Int32
  | 0, _, _, _, _ => none
  | m + 1, x0, x1, x2, x3 => if (10 : Int32) ≤ x3 then (some ((10 : Int32) + x1)) else (if x0 ≤ x2 then (ev ((10 : Int32) * x2) fun v3 => f_J10_stringSize_L16 n m x0 x1 v3 (x3 + (1 : Int32))) else (some (x3 + x1)))
set_option maxHeartbeats 4000000 in
theorem w_J10_stringSize_16 {K : KT} {T : CT} {r : Int32} {g : CG} {d : CD} (n : Nat) (C : Kok K cJ10_stringSize 4 RJ10) (B : CB K T) (hr : (kMe K).sig.returnType = (some .int)) (dK : kR K = rmC 2 0 0) (hQ : KQc K T (some (.int r)) 0 0 g d) : ∀ (m : Nat) (x0 : Int32) (x1 : Int32) (x2 : Int32) (x3 : Int32) (hf : f_J10_stringSize_L16 n m x0 x1 x2 x3 = some r), XJ K 4 (Wc K T 0 0 g d) 16 [(0, .int x0), (1, .int x1), (2, .int x2), (3, .int x3)] [] := by
  intro m
  induction m with
  | zero => intro x0 x1 x2 x3 hf; cases hf
  | succ m ih =>
    intro x0 x1 x2 x3 hf
    rw [f_J10_stringSize_L16] at hf
    refine x_iload_n C dJ10_stringSize_16 3 rfl ?_
    refine x_bipush (10 : Int32) C dJ10_stringSize_17 (by decide) ?_
    refine x_icmp_ge (tgt := 42) C dJ10_stringSize_19 (by decide) (fun c1 => ?_) (fun c1 => ?_)
    · have hf := pf_t c1 hf
      refine x_bipush (10 : Int32) C dJ10_stringSize_42 (by decide) ?_
      refine x_iload_n C dJ10_stringSize_44 1 rfl ?_
      refine x_iadd C dJ10_stringSize_45 ?_
      obtain rfl := Option.some.inj hf
      exact c_iret C hr hQ dJ10_stringSize_46
    · have hf := pf_f c1 hf
      refine x_iload_n C dJ10_stringSize_22 0 rfl ?_
      refine x_iload_n C dJ10_stringSize_23 2 rfl ?_
      refine x_icmp_le (tgt := 31) C dJ10_stringSize_24 (by decide) (fun c2 => ?_) (fun c2 => ?_)
      · have hf := pf_t c2 hf
        refine x_bipush (10 : Int32) C dJ10_stringSize_31 (by decide) ?_
        refine x_iload_n C dJ10_stringSize_33 2 rfl ?_
        refine x_imul C dJ10_stringSize_34 ?_
        obtain ⟨v3, ev3, hf⟩ := pf_e hf
        refine x_topir ev3 ?_
        refine x_istore_n (L' := [(0, .int x0), (1, .int x1), (2, .int v3), (3, .int x3)]) C dJ10_stringSize_35 (Nat.le_of_ble_eq_true rfl) [1, 2, 0, 3] rfl ?_
        refine x_inc (c := (1 : Int32)) (L' := [(0, .int x0), (1, .int x1), (2, .int v3), (3, .int (x3 + (1 : Int32)))]) C dJ10_stringSize_36 3 rfl (by decide) (Nat.le_of_ble_eq_true rfl) [1, 2, 3, 0] rfl ?_
        refine x_goto (tgt := 16) C dJ10_stringSize_39 (by decide) ?_
        exact ih x0 x1 v3 (x3 + (1 : Int32)) hf
      · have hf := pf_f c2 hf
        refine x_iload_n C dJ10_stringSize_27 3 rfl ?_
        refine x_iload_n C dJ10_stringSize_28 1 rfl ?_
        refine x_iadd C dJ10_stringSize_29 ?_
        obtain rfl := Option.some.inj hf
        exact c_iret C hr hQ dJ10_stringSize_30
def f_J10_stringSize (n : Nat) (x0 : Int32) : Option Int32 := if x0 < 0 then (f_J10_stringSize_L16 n n x0 (1 : Int32) (-10 : Int32) (1 : Int32)) else (ev (-x0) fun v2 => f_J10_stringSize_L16 n n v2 (0 : Int32) (-10 : Int32) (1 : Int32))
set_option maxHeartbeats 4000000 in
theorem w_J10_stringSize_E {K : KT} {T : CT} {r : Int32} {g : CG} {d : CD} (n : Nat) (C : Kok K cJ10_stringSize 4 RJ10) (B : CB K T) (hr : (kMe K).sig.returnType = (some .int)) (dK : kR K = rmC 2 0 0) (hQ : KQc K T (some (.int r)) 0 0 g d) (x0 : Int32) (hf : f_J10_stringSize n x0 = some r) : XJ K 4 (Wc K T 0 0 g d) 0 [(0, .int x0)] [] := by
  unfold f_J10_stringSize at hf
  refine x_iconst (1 : Int32) C dJ10_stringSize_0 (by decide) ?_
  refine x_istore_n (L' := [(0, .int x0), (1, .int (1 : Int32))]) C dJ10_stringSize_1 (Nat.le_of_ble_eq_true rfl) [1, 0] rfl ?_
  refine x_iload_n C dJ10_stringSize_2 0 rfl ?_
  refine x_if_lt (tgt := 11) C dJ10_stringSize_3 (by decide) (fun c1 => ?_) (fun c1 => ?_)
  · have hf := pf_t c1 hf
    refine x_bipush (-10 : Int32) C dJ10_stringSize_11 (by decide) ?_
    refine x_istore_n (L' := [(0, .int x0), (1, .int (1 : Int32)), (2, .int (-10 : Int32))]) C dJ10_stringSize_13 (Nat.le_of_ble_eq_true rfl) [1, 2, 0] rfl ?_
    refine x_iconst (1 : Int32) C dJ10_stringSize_14 (by decide) ?_
    refine x_istore_n (L' := [(0, .int x0), (1, .int (1 : Int32)), (2, .int (-10 : Int32)), (3, .int (1 : Int32))]) C dJ10_stringSize_15 (Nat.le_of_ble_eq_true rfl) [1, 2, 3, 0] rfl ?_
    exact w_J10_stringSize_16 n C B hr dK hQ n x0 (1 : Int32) (-10 : Int32) (1 : Int32) hf
  · have hf := pf_f c1 hf
    refine x_iconst (0 : Int32) C dJ10_stringSize_6 (by decide) ?_
    refine x_istore_n (L' := [(0, .int x0), (1, .int (0 : Int32))]) C dJ10_stringSize_7 (Nat.le_of_ble_eq_true rfl) [1, 0] rfl ?_
    refine x_iload_n C dJ10_stringSize_8 0 rfl ?_
    refine x_ineg C dJ10_stringSize_9 ?_
    obtain ⟨v2, ev2, hf⟩ := pf_e hf
    refine x_topir ev2 ?_
    refine x_istore_n (L' := [(0, .int v2), (1, .int (0 : Int32))]) C dJ10_stringSize_10 (Nat.le_of_ble_eq_true rfl) [0, 1] rfl ?_
    refine x_bipush (-10 : Int32) C dJ10_stringSize_11 (by decide) ?_
    refine x_istore_n (L' := [(0, .int v2), (1, .int (0 : Int32)), (2, .int (-10 : Int32))]) C dJ10_stringSize_13 (Nat.le_of_ble_eq_true rfl) [1, 2, 0] rfl ?_
    refine x_iconst (1 : Int32) C dJ10_stringSize_14 (by decide) ?_
    refine x_istore_n (L' := [(0, .int v2), (1, .int (0 : Int32)), (2, .int (-10 : Int32)), (3, .int (1 : Int32))]) C dJ10_stringSize_15 (Nat.le_of_ble_eq_true rfl) [1, 2, 3, 0] rfl ?_
    exact w_J10_stringSize_16 n C B hr dK hQ n v2 (0 : Int32) (-10 : Int32) (1 : Int32) hf
theorem met_J10_stringSize {T : CT} {v : Int32} {n : Nat} {g : CG} {d : CD} {x0 : Int32} {l : Launch} (hf : f_J10_stringSize n x0 = some v) : Met l yJ10_stringSize (ws_ yJ10_stringSize cJ10_stringSize 4 (some .int)) (rmC 2 0 0) (va_Pc [.int x0] (CU T g d)) (Qc T (some (.int v)) g d) 0 0 (cA T) :=
  c_met [.int x0] RJ10 (by decide) rfl (Nat.le_of_ble_eq_true rfl) (fun K hl hR hr C B hQ => w_J10_stringSize_E _ C B hr hR hQ _ hf)
def f_J2_fill_L5 (n : Nat) (g : CG) : Nat → Nat → Int32 → Int32 → Int32 → CD → Option CD
  | 0, _, _, _, _, _ => none
  | m + 1, x0, x1, x2, x3, d => if x3 ≤ x2 then (some d) else (if ht g x0 = 100 then if inb x2 (hn g x0) = true then ev (wi d x0 (Int32.toNatClampNeg x2) x1) fun s4 => f_J2_fill_L5 n g m x0 x1 (x2 + (1 : Int32)) x3 s4 else none else none)
set_option maxHeartbeats 4000000 in
theorem w_J2_fill_5 {K : KT} {T : CT} {τ : CD} (n : Nat) (g : CG) (C : Kok K cJ2_fill 4 RJ2) (B : CB K T) (hr : (kMe K).sig.returnType = none) (dK : kR K = rmC 2 0 0) (hQ : KQc K T none 0 0 g τ) : ∀ (m : Nat) (x0 : Nat) (x1 : Int32) (x2 : Int32) (x3 : Int32) (d : CD) (hf : f_J2_fill_L5 n g m x0 x1 x2 x3 d = some τ), XJ K 4 (Wc K T 0 0 g d) 5 [(0, .ref x0), (1, .int x1), (2, .int x2), (3, .int x3)] [] := by
  intro m
  induction m with
  | zero => intro x0 x1 x2 x3 d hf; cases hf
  | succ m ih =>
    intro x0 x1 x2 x3 d hf
    rw [f_J2_fill_L5] at hf
    refine x_iload_n C dJ2_fill_5 2 rfl ?_
    refine x_iload_n C dJ2_fill_6 3 rfl ?_
    refine x_icmp_ge (tgt := 20) C dJ2_fill_7 (by decide) (fun c1 => ?_) (fun c1 => ?_)
    · have hf := pf_t c1 hf
      obtain rfl := Option.some.inj hf
      exact c_vret C hr hQ dJ2_fill_20
    · have hf := pf_f c1 hf
      refine x_aload_n C dJ2_fill_10 0 rfl ?_
      refine x_iload_n C dJ2_fill_11 2 rfl ?_
      refine x_iload_n C dJ2_fill_12 1 rfl ?_
      obtain ⟨t2, hf⟩ := pf_ch hf
      obtain ⟨h3, hf⟩ := pf_in hf
      refine ca_ist C B t2 h3 dJ2_fill_13 ?_
      obtain ⟨s4, es4, hf⟩ := pf_e hf
      refine c_ren es4 ?_
      refine x_inc (c := (1 : Int32)) (L' := [(0, .ref x0), (1, .int x1), (2, .int (x2 + (1 : Int32))), (3, .int x3)]) C dJ2_fill_14 2 rfl (by decide) (Nat.le_of_ble_eq_true rfl) [1, 2, 0, 3] rfl ?_
      refine x_goto (tgt := 5) C dJ2_fill_17 (by decide) ?_
      exact ih x0 x1 (x2 + (1 : Int32)) x3 _ hf
def f_J2_fill (n : Nat) (g : CG) (x0 : Nat) (x1 : Int32) (d : CD) : Option CD := if ht g x0 = 100 then ev (Int32.ofNat (hn g x0)) fun v2 => f_J2_fill_L5 n g n x0 x1 (0 : Int32) v2 d else none
set_option maxHeartbeats 4000000 in
theorem w_J2_fill_E {K : KT} {T : CT} {τ : CD} (n : Nat) (g : CG) (C : Kok K cJ2_fill 4 RJ2) (B : CB K T) (hr : (kMe K).sig.returnType = none) (dK : kR K = rmC 2 0 0) (hQ : KQc K T none 0 0 g τ) (x0 : Nat) (x1 : Int32) (d : CD) (hf : f_J2_fill n g x0 x1 d = some τ) : XJ K 4 (Wc K T 0 0 g d) 0 [(0, .ref x0), (1, .int x1)] [] := by
  unfold f_J2_fill at hf
  refine x_iconst (0 : Int32) C dJ2_fill_0 (by decide) ?_
  refine x_istore_n (L' := [(0, .ref x0), (1, .int x1), (2, .int (0 : Int32))]) C dJ2_fill_1 (Nat.le_of_ble_eq_true rfl) [1, 2, 0] rfl ?_
  refine x_aload_n C dJ2_fill_2 0 rfl ?_
  obtain ⟨t1, hf⟩ := pf_ch hf
  refine ca_len C B t1 (Or.inl rfl) rfl dJ2_fill_3 ?_
  obtain ⟨v2, ev2, hf⟩ := pf_e hf
  refine x_topir ev2 ?_
  refine x_istore_n (L' := [(0, .ref x0), (1, .int x1), (2, .int (0 : Int32)), (3, .int v2)]) C dJ2_fill_4 (Nat.le_of_ble_eq_true rfl) [1, 2, 3, 0] rfl ?_
  exact w_J2_fill_5 n g C B hr dK hQ n x0 x1 (0 : Int32) v2 _ hf
theorem met_J2_fill {T : CT} {v : CD} {n : Nat} {g : CG} {d : CD} {x0 : Nat} {x1 : Int32} {l : Launch} (hf : f_J2_fill n g x0 x1 d = some v) : Met l yJ2_fill (ws_ yJ2_fill cJ2_fill 4 none) (rmC 2 0 0) (va_Pc [.ref x0, .int x1] (CU T g d)) (Qc T none g v) 0 0 (cA T) :=
  c_met [.ref x0, .int x1] RJ2 (by decide) rfl (Nat.le_of_ble_eq_true rfl) (fun K hl hR hr C B hQ => w_J2_fill_E _ _ C B hr hR hQ _ _ _ hf)
def f_X5_isGone (g : CG) (d : CD) (x0 : Nat) : Option Int32 := if ht g x0 = 5 then if (hi d x0 1) = (-1 : Int32) then (some (1 : Int32)) else (some (0 : Int32)) else none
set_option maxHeartbeats 4000000 in
theorem w_X5_isGone_E {K : KT} {T : CT} {r : Int32} (g : CG) (d : CD) (C : Kok K cX5_isGone 1 RX5) (B : CB K T) (hr : (kMe K).sig.returnType = (some .boolean)) (dK : kR K = rmC 2 0 0) (hQ : KQc K T (some (.int r)) 0 0 g d) (x0 : Nat) (hf : f_X5_isGone g d x0 = some r) : XJ K 1 (Wc K T 0 0 g d) 0 [(0, .ref x0)] [] := by
  unfold f_X5_isGone at hf
  refine x_aload_n C dX5_isGone_0 0 rfl ?_
  obtain ⟨t1, hf⟩ := pf_ch hf
  refine cg5_1 C B t1 (flo C q413) fsm dX5_isGone_1 ?_
  refine x_iconst (-1 : Int32) C dX5_isGone_4 (by decide) ?_
  refine x_icmp_ne (tgt := 12) C dX5_isGone_5 (by decide) (fun c2 => ?_) (fun c2 => ?_)
  · have hf := pf_f c2 hf
    refine x_iconst (0 : Int32) C dX5_isGone_12 (by decide) ?_
    obtain rfl := Option.some.inj hf
    exact c_zret C hr (Or.inl rfl) hQ dX5_isGone_13
  · have hf := pf_t c2 hf
    refine x_iconst (1 : Int32) C dX5_isGone_8 (by decide) ?_
    refine x_goto (tgt := 13) C dX5_isGone_9 (by decide) ?_
    obtain rfl := Option.some.inj hf
    exact c_zret C hr (Or.inr rfl) hQ dX5_isGone_13
theorem bz_X5_isGone_E {r : Int32} {g : CG} {d : CD} {x0 : Nat} (hf : f_X5_isGone g d x0 = some r) : r = 0 ∨ r = 1 := by
  unfold f_X5_isGone at hf
  obtain ⟨t1, hf⟩ := pf_ch hf
  by_cases c2 : (hi d x0 1) = (-1 : Int32)
  · have hf := pf_t c2 hf
    obtain rfl := Option.some.inj hf
    exact (Or.inr rfl)
  · have hf := pf_f c2 hf
    obtain rfl := Option.some.inj hf
    exact (Or.inl rfl)
theorem met_X5_isGone {T : CT} {v : Int32} {g : CG} {d : CD} {x0 : Nat} {l : Launch} (hf : f_X5_isGone g d x0 = some v) : Met l yX5_isGone (ws_ yX5_isGone cX5_isGone 1 (some .boolean)) (rmC 2 0 0) (va_Pc [.ref x0] (CU T g d)) (Qc T (some (.int v)) g d) 0 0 (cA T) :=
  c_met [.ref x0] RX5 (by decide) rfl (Nat.le_of_ble_eq_true rfl) (fun K hl hR hr C B hQ => w_X5_isGone_E _ _ C B hr hR hQ _ hf)
theorem k_X5_isGone_X4 {K : KT} {T : CT} {c0 s0 c1 s1 dk : Nat} {cc : ByteArray} {nL pc : Nat} {L : List (Nat × Value)} {rest : List Value} {g : CG} {d : CD} {v : Int32} {x0 : Nat} (C : Kok K cc nL RX4) (B : CB K T) (hta : ht g x0 = 5) (dK : kR K = rmC dk c1 s1) (hd : 2 + 1 ≤ dk) (hcs : c0 + 0 ≤ c1 ∧ s0 + 0 ≤ s1) (hf : f_X5_isGone g d x0 = some v) (hW : (rest.map fun v => v.category).sum ≤ 8) (dd : decode cc pc = .ok (.invokevirtual 81, 3)) (kk2 : XJ K nL (Wc K T c0 s0 g d) (pc + 3) L ((.int v) :: rest)) : XJ K nL (Wc K T c0 s0 g d) pc L (.ref x0 :: rest) :=
  c_callV (rest := rest) (v := (some (.int v))) [] 0 rfl C B hta (by decide) (by decide) rfl dK hd (Nat.le_of_ble_eq_true rfl) hcs (lw_V q1019 q1020 q1021 q127 q1022) (by decide +kernel) (met_X5_isGone hf) rfl hW dd kk2
def f_X4_dawn_L5 (n : Nat) (g : CG) : Nat → Nat → Nat → Int32 → Int32 → Int32 → CD → Option (Int32 × CD)
  | 0, _, _, _, _, _, _ => none
  | m + 1, x0, x1, x2, x3, x4, d => if ht g x1 = 3 then if (hi d x1 20) ≤ x4 then (some (x3, d)) else (if ht g x0 = 4 then (hr g x0 0).bind fun p4 => if ht g p4 = 105 then if inb x4 (hn g p4) = true then (hr g p4 (Int32.toNatClampNeg x4)).bind fun p7 => if ht g p7 = 5 then (f_X5_isGone g d p7).bind fun r9 => if r9 = 0 then ((hr g x1 4).bind fun p11 => if ht g p11 = 100 then if inb (hi d p7 1) (hn g p11) = true then if (x2 * (hi d p11 (Int32.toNatClampNeg (hi d p7 1)))) < (hi d p7 3) then (ev (wi d p7 1 (-1 : Int32)) fun s15 => ev (x3 ||| ((1 : Int32) <<< (x4 &&& 31))) fun v16 => f_X4_dawn_L5 n g m x0 x1 x2 v16 (x4 + (1 : Int32)) s15) else (f_X4_dawn_L5 n g m x0 x1 x2 x3 (x4 + (1 : Int32)) d) else none else none) else (f_X4_dawn_L5 n g m x0 x1 x2 x3 (x4 + (1 : Int32)) d) else none else none else none else none) else none
set_option maxHeartbeats 4000000 in
theorem w_X4_dawn_5 {K : KT} {T : CT} {r : Int32} {τ : CD} (n : Nat) (g : CG) (C : Kok K cX4_dawn 6 RX4) (B : CB K T) (hr : (kMe K).sig.returnType = (some .int)) (dK : kR K = rmC 3 0 0) (hQ : KQc K T (some (.int r)) 0 0 g τ) : ∀ (m : Nat) (x0 : Nat) (x1 : Nat) (x2 : Int32) (x3 : Int32) (x4 : Int32) (d : CD) (hf : f_X4_dawn_L5 n g m x0 x1 x2 x3 x4 d = some (r, τ)), XJ K 6 (Wc K T 0 0 g d) 5 [(0, .ref x0), (1, .ref x1), (2, .int x2), (3, .int x3), (4, .int x4)] [] := by
  intro m
  induction m with
  | zero => intro x0 x1 x2 x3 x4 d hf; cases hf
  | succ m ih =>
    intro x0 x1 x2 x3 x4 d hf
    rw [f_X4_dawn_L5] at hf
    refine x_iload C dX4_dawn_5 4 rfl ?_
    refine x_aload_n C dX4_dawn_7 1 rfl ?_
    obtain ⟨t1, hf⟩ := pf_ch hf
    refine cg3_20 C B t1 (fln B q334) fsm dX4_dawn_8 ?_
    refine x_icmp_ge (tgt := 73) C dX4_dawn_11 (by decide) (fun c2 => ?_) (fun c2 => ?_)
    · have hf := pf_t c2 hf
      refine x_iload_n C dX4_dawn_73 3 rfl ?_
      obtain ⟨rfl, rfl⟩ := Prod.mk.inj (Option.some.inj hf)
      exact c_iret C hr hQ dX4_dawn_74
    · have hf := pf_f c2 hf
      refine x_aload_n C dX4_dawn_14 0 rfl ?_
      obtain ⟨t3, hf⟩ := pf_ch hf
      obtain ⟨p4, ep4, hf⟩ := pf_b hf
      refine cg4_0 C B t3 (flo C q447) fsm ep4 dX4_dawn_15 ?_
      refine x_iload C dX4_dawn_18 4 rfl ?_
      obtain ⟨t5, hf⟩ := pf_ch hf
      obtain ⟨h6, hf⟩ := pf_in hf
      obtain ⟨p7, ep7, hf⟩ := pf_b hf
      refine ca_ald5 C B t5 h6 ep7 dX4_dawn_20 ?_
      refine x_astore (L' := [(0, .ref x0), (1, .ref x1), (2, .int x2), (3, .int x3), (4, .int x4), (5, .ref p7)]) C dX4_dawn_21 (Nat.le_of_ble_eq_true rfl) [1, 2, 3, 4, 5, 0] rfl ?_
      refine x_aload C dX4_dawn_23 5 rfl ?_
      obtain ⟨t8, hf⟩ := pf_ch hf
      obtain ⟨r9, er9, hf⟩ := pf_b hf
      refine k_X5_isGone_X4 C B t8 dK (Nat.le_of_ble_eq_true rfl) cz er9 (Nat.le_of_ble_eq_true rfl) dX4_dawn_25 ?_
      refine x_if_ne (tgt := 67) C dX4_dawn_28 (by decide) (fun c10 => ?_) (fun c10 => ?_)
      · have hf := pf_f c10 hf
        refine x_inc (c := (1 : Int32)) (L' := [(0, .ref x0), (1, .ref x1), (2, .int x2), (3, .int x3), (4, .int (x4 + (1 : Int32)))]) C dX4_dawn_67 4 rfl (by decide) (Nat.le_of_ble_eq_true rfl) [1, 2, 3, 4, 0] rfl ?_
        refine x_goto (tgt := 5) C dX4_dawn_70 (by decide) ?_
        exact ih x0 x1 x2 x3 (x4 + (1 : Int32)) _ hf
      · have hf := pf_t c10 hf
        refine x_aload C dX4_dawn_31 5 rfl ?_
        refine cg5_3 C B t8 (fln B q424) fsm dX4_dawn_33 ?_
        refine x_iload_n C dX4_dawn_36 2 rfl ?_
        refine x_aload_n C dX4_dawn_37 1 rfl ?_
        obtain ⟨p11, ep11, hf⟩ := pf_b hf
        refine cg3_4 C B t1 (fln B q284) fsm ep11 dX4_dawn_38 ?_
        refine x_aload C dX4_dawn_41 5 rfl ?_
        refine cg5_1 C B t8 (fln B q416) fsm dX4_dawn_43 ?_
        obtain ⟨t12, hf⟩ := pf_ch hf
        obtain ⟨h13, hf⟩ := pf_in hf
        refine ca_ild C B t12 h13 dX4_dawn_46 ?_
        refine x_imul C dX4_dawn_47 ?_
        refine x_icmp_gt (tgt := 54) C dX4_dawn_48 (by decide) (fun c14 => ?_) (fun c14 => ?_)
        · have hf := pf_t c14 hf
          refine x_aload C dX4_dawn_54 5 rfl ?_
          refine x_iconst (-1 : Int32) C dX4_dawn_56 (by decide) ?_
          refine cp5_1 C B t8 (fln B q416) fsm dX4_dawn_57 ?_
          obtain ⟨s15, es15, hf⟩ := pf_e hf
          refine c_ren es15 ?_
          refine x_iload_n C dX4_dawn_60 3 rfl ?_
          refine x_iconst (1 : Int32) C dX4_dawn_61 (by decide) ?_
          refine x_iload C dX4_dawn_62 4 rfl ?_
          refine x_ishl C dX4_dawn_64 ?_
          refine x_ior C dX4_dawn_65 ?_
          obtain ⟨v16, ev16, hf⟩ := pf_e hf
          refine x_topir ev16 ?_
          refine x_istore_n (L' := [(0, .ref x0), (1, .ref x1), (2, .int x2), (3, .int v16), (4, .int x4)]) C dX4_dawn_66 (Nat.le_of_ble_eq_true rfl) [1, 2, 3, 0, 4] rfl ?_
          refine x_inc (c := (1 : Int32)) (L' := [(0, .ref x0), (1, .ref x1), (2, .int x2), (3, .int v16), (4, .int (x4 + (1 : Int32)))]) C dX4_dawn_67 4 rfl (by decide) (Nat.le_of_ble_eq_true rfl) [1, 2, 3, 4, 0] rfl ?_
          refine x_goto (tgt := 5) C dX4_dawn_70 (by decide) ?_
          exact ih x0 x1 x2 v16 (x4 + (1 : Int32)) _ hf
        · have hf := pf_f c14 hf
          refine x_goto (tgt := 67) C dX4_dawn_51 (by decide) ?_
          refine x_inc (c := (1 : Int32)) (L' := [(0, .ref x0), (1, .ref x1), (2, .int x2), (3, .int x3), (4, .int (x4 + (1 : Int32)))]) C dX4_dawn_67 4 rfl (by decide) (Nat.le_of_ble_eq_true rfl) [1, 2, 3, 4, 0] rfl ?_
          refine x_goto (tgt := 5) C dX4_dawn_70 (by decide) ?_
          exact ih x0 x1 x2 x3 (x4 + (1 : Int32)) _ hf
def f_X4_dawn (n : Nat) (g : CG) (x0 : Nat) (x1 : Nat) (x2 : Int32) (d : CD) : Option (Int32 × CD) := f_X4_dawn_L5 n g n x0 x1 x2 (0 : Int32) (0 : Int32) d
set_option maxHeartbeats 4000000 in
theorem w_X4_dawn_E {K : KT} {T : CT} {r : Int32} {τ : CD} (n : Nat) (g : CG) (C : Kok K cX4_dawn 6 RX4) (B : CB K T) (hr : (kMe K).sig.returnType = (some .int)) (dK : kR K = rmC 3 0 0) (hQ : KQc K T (some (.int r)) 0 0 g τ) (x0 : Nat) (x1 : Nat) (x2 : Int32) (d : CD) (hf : f_X4_dawn n g x0 x1 x2 d = some (r, τ)) : XJ K 6 (Wc K T 0 0 g d) 0 [(0, .ref x0), (1, .ref x1), (2, .int x2)] [] := by
  unfold f_X4_dawn at hf
  refine x_iconst (0 : Int32) C dX4_dawn_0 (by decide) ?_
  refine x_istore_n (L' := [(0, .ref x0), (1, .ref x1), (2, .int x2), (3, .int (0 : Int32))]) C dX4_dawn_1 (Nat.le_of_ble_eq_true rfl) [1, 2, 3, 0] rfl ?_
  refine x_iconst (0 : Int32) C dX4_dawn_2 (by decide) ?_
  refine x_istore (L' := [(0, .ref x0), (1, .ref x1), (2, .int x2), (3, .int (0 : Int32)), (4, .int (0 : Int32))]) C dX4_dawn_3 (Nat.le_of_ble_eq_true rfl) [1, 2, 3, 4, 0] rfl ?_
  exact w_X4_dawn_5 n g C B hr dK hQ n x0 x1 x2 (0 : Int32) (0 : Int32) _ hf
theorem met_X4_dawn {T : CT} {v : (Int32 × CD)} {n : Nat} {g : CG} {d : CD} {x0 : Nat} {x1 : Nat} {x2 : Int32} {l : Launch} (hf : f_X4_dawn n g x0 x1 x2 d = some v) : Met l yX4_dawn (ws_ yX4_dawn cX4_dawn 6 (some .int)) (rmC 3 0 0) (va_Pc [.ref x0, .ref x1, .int x2] (CU T g d)) (Qc T (some (.int v.1)) g v.2) 0 0 (cA T) :=
  c_met [.ref x0, .ref x1, .int x2] RX4 (by decide) rfl (Nat.le_of_ble_eq_true rfl) (fun K hl hR hr C B hQ => w_X4_dawn_E _ _ C B hr hR hQ _ _ _ _ hf)
def f_X1_has (x0 : Int32) (x1 : Int32) : Int32 := if ((x0 >>> (x1 &&& 31)) &&& (1 : Int32)) = (1 : Int32) then ((1 : Int32)) else ((0 : Int32))
set_option maxHeartbeats 4000000 in
theorem w_X1_has_E {K : KT} {T : CT} {r : Int32} {g : CG} {d : CD} (C : Kok K cX1_has 2 RX1) (B : CB K T) (hr : (kMe K).sig.returnType = (some .boolean)) (dK : kR K = rmC 2 0 0) (hQ : KQc K T (some (.int r)) 0 0 g d) (x0 : Int32) (x1 : Int32) (hf : f_X1_has x0 x1 = r) : XJ K 2 (Wc K T 0 0 g d) 0 [(0, .int x0), (1, .int x1)] [] := by
  unfold f_X1_has at hf
  refine x_iload_n C dX1_has_0 0 rfl ?_
  refine x_iload_n C dX1_has_1 1 rfl ?_
  refine x_ishr C dX1_has_2 ?_
  refine x_iconst (1 : Int32) C dX1_has_3 (by decide) ?_
  refine x_iand C dX1_has_4 ?_
  refine x_iconst (1 : Int32) C dX1_has_5 (by decide) ?_
  refine x_icmp_ne (tgt := 13) C dX1_has_6 (by decide) (fun c1 => ?_) (fun c1 => ?_)
  · have hf := pf_f c1 hf
    refine x_iconst (0 : Int32) C dX1_has_13 (by decide) ?_
    subst hf
    exact c_zret C hr (Or.inl rfl) hQ dX1_has_14
  · have hf := pf_t c1 hf
    refine x_iconst (1 : Int32) C dX1_has_9 (by decide) ?_
    refine x_goto (tgt := 14) C dX1_has_10 (by decide) ?_
    subst hf
    exact c_zret C hr (Or.inr rfl) hQ dX1_has_14
theorem bz_X1_has_E {r : Int32} {x0 : Int32} {x1 : Int32} (hf : f_X1_has x0 x1 = r) : r = 0 ∨ r = 1 := by
  unfold f_X1_has at hf
  by_cases c1 : ((x0 >>> (x1 &&& 31)) &&& (1 : Int32)) = (1 : Int32)
  · have hf := pf_t c1 hf
    subst hf
    exact (Or.inr rfl)
  · have hf := pf_f c1 hf
    subst hf
    exact (Or.inl rfl)
theorem met_X1_has {T : CT} {v : Int32} {g : CG} {d : CD} {x0 : Int32} {x1 : Int32} {l : Launch} (hf : f_X1_has x0 x1 = v) : Met l yX1_has (ws_ yX1_has cX1_has 2 (some .boolean)) (rmC 2 0 0) (va_Pc [.int x0, .int x1] (CU T g d)) (Qc T (some (.int v)) g d) 0 0 (cA T) :=
  c_met [.int x0, .int x1] RX1 (by decide) rfl (Nat.le_of_ble_eq_true rfl) (fun K hl hR hr C B hQ => w_X1_has_E C B hr hR hQ _ _ hf)
def f_X4_at_L2 (n : Nat) (g : CG) (d : CD) : Nat → Nat → Nat → Int32 → Int32 → Option Int32
  | 0, _, _, _, _ => none
  | m + 1, x0, x1, x2, x3 => if ht g x1 = 3 then if (hi d x1 20) ≤ x3 then (some (-1 : Int32)) else (if ht g x0 = 4 then (hr g x0 0).bind fun p4 => if ht g p4 = 105 then if inb x3 (hn g p4) = true then (hr g p4 (Int32.toNatClampNeg x3)).bind fun p7 => if ht g p7 = 5 then if (hi d p7 1) = x2 then (some x3) else (f_X4_at_L2 n g d m x0 x1 x2 (x3 + (1 : Int32))) else none else none else none else none) else none
set_option maxHeartbeats 4000000 in
theorem w_X4_at_2 {K : KT} {T : CT} {r : Int32} (n : Nat) (g : CG) (d : CD) (C : Kok K cX4_at 4 RX4) (B : CB K T) (hr : (kMe K).sig.returnType = (some .int)) (dK : kR K = rmC 2 0 0) (hQ : KQc K T (some (.int r)) 0 0 g d) : ∀ (m : Nat) (x0 : Nat) (x1 : Nat) (x2 : Int32) (x3 : Int32) (hf : f_X4_at_L2 n g d m x0 x1 x2 x3 = some r), XJ K 4 (Wc K T 0 0 g d) 2 [(0, .ref x0), (1, .ref x1), (2, .int x2), (3, .int x3)] [] := by
  intro m
  induction m with
  | zero => intro x0 x1 x2 x3 hf; cases hf
  | succ m ih =>
    intro x0 x1 x2 x3 hf
    rw [f_X4_at_L2] at hf
    refine x_iload_n C dX4_at_2 3 rfl ?_
    refine x_aload_n C dX4_at_3 1 rfl ?_
    obtain ⟨t1, hf⟩ := pf_ch hf
    refine cg3_20 C B t1 (fln B q334) fsm dX4_at_4 ?_
    refine x_icmp_ge (tgt := 31) C dX4_at_7 (by decide) (fun c2 => ?_) (fun c2 => ?_)
    · have hf := pf_t c2 hf
      refine x_iconst (-1 : Int32) C dX4_at_31 (by decide) ?_
      obtain rfl := Option.some.inj hf
      exact c_iret C hr hQ dX4_at_32
    · have hf := pf_f c2 hf
      refine x_aload_n C dX4_at_10 0 rfl ?_
      obtain ⟨t3, hf⟩ := pf_ch hf
      obtain ⟨p4, ep4, hf⟩ := pf_b hf
      refine cg4_0 C B t3 (flo C q447) fsm ep4 dX4_at_11 ?_
      refine x_iload_n C dX4_at_14 3 rfl ?_
      obtain ⟨t5, hf⟩ := pf_ch hf
      obtain ⟨h6, hf⟩ := pf_in hf
      obtain ⟨p7, ep7, hf⟩ := pf_b hf
      refine ca_ald5 C B t5 h6 ep7 dX4_at_15 ?_
      obtain ⟨t8, hf⟩ := pf_ch hf
      refine cg5_1 C B t8 (fln B q416) fsm dX4_at_16 ?_
      refine x_iload_n C dX4_at_19 2 rfl ?_
      refine x_icmp_ne (tgt := 25) C dX4_at_20 (by decide) (fun c9 => ?_) (fun c9 => ?_)
      · have hf := pf_f c9 hf
        refine x_inc (c := (1 : Int32)) (L' := [(0, .ref x0), (1, .ref x1), (2, .int x2), (3, .int (x3 + (1 : Int32)))]) C dX4_at_25 3 rfl (by decide) (Nat.le_of_ble_eq_true rfl) [1, 2, 3, 0] rfl ?_
        refine x_goto (tgt := 2) C dX4_at_28 (by decide) ?_
        exact ih x0 x1 x2 (x3 + (1 : Int32)) hf
      · have hf := pf_t c9 hf
        refine x_iload_n C dX4_at_23 3 rfl ?_
        obtain rfl := Option.some.inj hf
        exact c_iret C hr hQ dX4_at_24
def f_X4_at (n : Nat) (g : CG) (d : CD) (x0 : Nat) (x1 : Nat) (x2 : Int32) : Option Int32 := f_X4_at_L2 n g d n x0 x1 x2 (0 : Int32)
set_option maxHeartbeats 4000000 in
theorem w_X4_at_E {K : KT} {T : CT} {r : Int32} (n : Nat) (g : CG) (d : CD) (C : Kok K cX4_at 4 RX4) (B : CB K T) (hr : (kMe K).sig.returnType = (some .int)) (dK : kR K = rmC 2 0 0) (hQ : KQc K T (some (.int r)) 0 0 g d) (x0 : Nat) (x1 : Nat) (x2 : Int32) (hf : f_X4_at n g d x0 x1 x2 = some r) : XJ K 4 (Wc K T 0 0 g d) 0 [(0, .ref x0), (1, .ref x1), (2, .int x2)] [] := by
  unfold f_X4_at at hf
  refine x_iconst (0 : Int32) C dX4_at_0 (by decide) ?_
  refine x_istore_n (L' := [(0, .ref x0), (1, .ref x1), (2, .int x2), (3, .int (0 : Int32))]) C dX4_at_1 (Nat.le_of_ble_eq_true rfl) [1, 2, 3, 0] rfl ?_
  exact w_X4_at_2 n g d C B hr dK hQ n x0 x1 x2 (0 : Int32) hf
theorem met_X4_at {T : CT} {v : Int32} {n : Nat} {g : CG} {d : CD} {x0 : Nat} {x1 : Nat} {x2 : Int32} {l : Launch} (hf : f_X4_at n g d x0 x1 x2 = some v) : Met l yX4_at (ws_ yX4_at cX4_at 4 (some .int)) (rmC 2 0 0) (va_Pc [.ref x0, .ref x1, .int x2] (CU T g d)) (Qc T (some (.int v)) g d) 0 0 (cA T) :=
  c_met [.ref x0, .ref x1, .int x2] RX4 (by decide) rfl (Nat.le_of_ble_eq_true rfl) (fun K hl hR hr C B hQ => w_X4_at_E _ _ _ C B hr hR hQ _ _ _ hf)
def f_X3_likes (g : CG) (d : CD) (x0 : Nat) (x1 : Int32) (x2 : Int32) : Option Int32 := if ht g x0 = 3 then (hr g x0 16).bind fun p2 => if ht g p2 = 102 then if inb (((5 : Int32) * x1) + x2) (hn g p2) = true then if (hi d p2 (Int32.toNatClampNeg (((5 : Int32) * x1) + x2))) = 0 then (some (6 : Int32)) else ((hr g x0 14).bind fun p6 => if ht g p6 = 100 then if inb (((5 : Int32) * x1) + x2) (hn g p6) = true then some (hi d p6 (Int32.toNatClampNeg (((5 : Int32) * x1) + x2))) else none else none) else none else none else none
set_option maxHeartbeats 4000000 in
theorem w_X3_likes_E {K : KT} {T : CT} {r : Int32} (g : CG) (d : CD) (C : Kok K cX3_likes 3 RX3) (B : CB K T) (hr : (kMe K).sig.returnType = (some .int)) (dK : kR K = rmC 2 0 0) (hQ : KQc K T (some (.int r)) 0 0 g d) (x0 : Nat) (x1 : Int32) (x2 : Int32) (hf : f_X3_likes g d x0 x1 x2 = some r) : XJ K 3 (Wc K T 0 0 g d) 0 [(0, .ref x0), (1, .int x1), (2, .int x2)] [] := by
  unfold f_X3_likes at hf
  refine x_aload_n C dX3_likes_0 0 rfl ?_
  obtain ⟨t1, hf⟩ := pf_ch hf
  obtain ⟨p2, ep2, hf⟩ := pf_b hf
  refine cg3_16 C B t1 (flo C q320) fsm ep2 dX3_likes_1 ?_
  refine x_iconst (5 : Int32) C dX3_likes_4 (by decide) ?_
  refine x_iload_n C dX3_likes_5 1 rfl ?_
  refine x_imul C dX3_likes_6 ?_
  refine x_iload_n C dX3_likes_7 2 rfl ?_
  refine x_iadd C dX3_likes_8 ?_
  obtain ⟨t3, hf⟩ := pf_ch hf
  obtain ⟨h4, hf⟩ := pf_in hf
  refine ca_zld C B t3 h4 dX3_likes_9 ?_
  refine x_if_eq (tgt := 26) C dX3_likes_10 (by decide) (fun c5 => ?_) (fun c5 => ?_)
  · have hf := pf_t c5 hf
    refine x_bipush (6 : Int32) C dX3_likes_26 (by decide) ?_
    obtain rfl := Option.some.inj hf
    exact c_iret C hr hQ dX3_likes_28
  · have hf := pf_f c5 hf
    refine x_aload_n C dX3_likes_13 0 rfl ?_
    obtain ⟨p6, ep6, hf⟩ := pf_b hf
    refine cg3_14 C B t1 (flo C q315) fsm ep6 dX3_likes_14 ?_
    refine x_iconst (5 : Int32) C dX3_likes_17 (by decide) ?_
    refine x_iload_n C dX3_likes_18 1 rfl ?_
    refine x_imul C dX3_likes_19 ?_
    refine x_iload_n C dX3_likes_20 2 rfl ?_
    refine x_iadd C dX3_likes_21 ?_
    obtain ⟨t7, hf⟩ := pf_ch hf
    obtain ⟨h8, hf⟩ := pf_in hf
    refine ca_ild C B t7 h8 dX3_likes_22 ?_
    refine x_goto (tgt := 28) C dX3_likes_23 (by decide) ?_
    obtain rfl := Option.some.inj hf
    exact c_iret C hr hQ dX3_likes_28
theorem met_X3_likes {T : CT} {v : Int32} {g : CG} {d : CD} {x0 : Nat} {x1 : Int32} {x2 : Int32} {l : Launch} (hf : f_X3_likes g d x0 x1 x2 = some v) : Met l yX3_likes (ws_ yX3_likes cX3_likes 3 (some .int)) (rmC 2 0 0) (va_Pc [.ref x0, .int x1, .int x2] (CU T g d)) (Qc T (some (.int v)) g d) 0 0 (cA T) :=
  c_met [.ref x0, .int x1, .int x2] RX3 (by decide) rfl (Nat.le_of_ble_eq_true rfl) (fun K hl hR hr C B hQ => w_X3_likes_E _ _ C B hr hR hQ _ _ _ hf)
theorem k_X3_likes_X4 {K : KT} {T : CT} {c0 s0 c1 s1 dk : Nat} {cc : ByteArray} {nL pc : Nat} {L : List (Nat × Value)} {rest : List Value} {g : CG} {d : CD} {v : Int32} {x0 : Nat} {x1 : Int32} {x2 : Int32} (C : Kok K cc nL RX4) (B : CB K T) (hta : ht g x0 = 3) (dK : kR K = rmC dk c1 s1) (hd : 2 + 1 ≤ dk) (hcs : c0 + 0 ≤ c1 ∧ s0 + 0 ≤ s1) (hf : f_X3_likes g d x0 x1 x2 = some v) (hW : (rest.map fun v => v.category).sum ≤ 8) (dd : decode cc pc = .ok (.invokevirtual 85, 3)) (kk2 : XJ K nL (Wc K T c0 s0 g d) (pc + 3) L ((.int v) :: rest)) : XJ K nL (Wc K T c0 s0 g d) pc L (.int x2 :: .int x1 :: .ref x0 :: rest) :=
  c_callV (rest := rest) (v := (some (.int v))) [.int x1, .int x2] 2 rfl C B hta (by decide) (by decide) rfl dK hd (Nat.le_of_ble_eq_true rfl) hcs (lw_V q1010 q1003 q1004 q125 q1005) (by decide +kernel) (met_X3_likes hf) rfl hW dd kk2
def f_X4_chance (g : CG) (d : CD) (x0 : Nat) (x1 : Nat) (x2 : Int32) (x3 : Int32) : Option Int32 := if ht g x1 = 3 then (f_X3_likes g d x1 x2 x3).bind fun r2 => if ht g x0 = 4 then (hr g x0 1).bind fun p4 => if ht g p4 = 100 then if inb (((5 : Int32) * x2) + x3) (hn g p4) = true then some (r2 >>> ((hi d p4 (Int32.toNatClampNeg (((5 : Int32) * x2) + x3))) &&& 31)) else none else none else none else none
set_option maxHeartbeats 4000000 in
theorem w_X4_chance_E {K : KT} {T : CT} {r : Int32} (g : CG) (d : CD) (C : Kok K cX4_chance 4 RX4) (B : CB K T) (hr : (kMe K).sig.returnType = (some .int)) (dK : kR K = rmC 3 0 0) (hQ : KQc K T (some (.int r)) 0 0 g d) (x0 : Nat) (x1 : Nat) (x2 : Int32) (x3 : Int32) (hf : f_X4_chance g d x0 x1 x2 x3 = some r) : XJ K 4 (Wc K T 0 0 g d) 0 [(0, .ref x0), (1, .ref x1), (2, .int x2), (3, .int x3)] [] := by
  unfold f_X4_chance at hf
  refine x_aload_n C dX4_chance_0 1 rfl ?_
  refine x_iload_n C dX4_chance_1 2 rfl ?_
  refine x_iload_n C dX4_chance_2 3 rfl ?_
  obtain ⟨t1, hf⟩ := pf_ch hf
  obtain ⟨r2, er2, hf⟩ := pf_b hf
  refine k_X3_likes_X4 C B t1 dK (Nat.le_of_ble_eq_true rfl) cz er2 (Nat.le_of_ble_eq_true rfl) dX4_chance_3 ?_
  refine x_aload_n C dX4_chance_6 0 rfl ?_
  obtain ⟨t3, hf⟩ := pf_ch hf
  obtain ⟨p4, ep4, hf⟩ := pf_b hf
  refine cg4_1 C B t3 (flo C q452) fsm ep4 dX4_chance_7 ?_
  refine x_iconst (5 : Int32) C dX4_chance_10 (by decide) ?_
  refine x_iload_n C dX4_chance_11 2 rfl ?_
  refine x_imul C dX4_chance_12 ?_
  refine x_iload_n C dX4_chance_13 3 rfl ?_
  refine x_iadd C dX4_chance_14 ?_
  obtain ⟨t5, hf⟩ := pf_ch hf
  obtain ⟨h6, hf⟩ := pf_in hf
  refine ca_ild C B t5 h6 dX4_chance_15 ?_
  refine x_ishr C dX4_chance_16 ?_
  obtain rfl := Option.some.inj hf
  exact c_iret C hr hQ dX4_chance_17
theorem met_X4_chance {T : CT} {v : Int32} {g : CG} {d : CD} {x0 : Nat} {x1 : Nat} {x2 : Int32} {x3 : Int32} {l : Launch} (hf : f_X4_chance g d x0 x1 x2 x3 = some v) : Met l yX4_chance (ws_ yX4_chance cX4_chance 4 (some .int)) (rmC 3 0 0) (va_Pc [.ref x0, .ref x1, .int x2, .int x3] (CU T g d)) (Qc T (some (.int v)) g d) 0 0 (cA T) :=
  c_met [.ref x0, .ref x1, .int x2, .int x3] RX4 (by decide) rfl (Nat.le_of_ble_eq_true rfl) (fun K hl hR hr C B hQ => w_X4_chance_E _ _ C B hr hR hQ _ _ _ _ hf)
def f_X4_draw (g : CG) (x0 : Nat) (x1 : Int32) (d : CD) : Option (Int32 × CD) := if ht g x0 = 4 then ev (wi d x0 6 (((hi d x0 6) * (1103515245 : Int32)) + (12345 : Int32))) fun s2 => if ¬ x1 = 0 then some ((j_ushr (hi s2 x0 6) (8 : Int32)) - (j_ushr (hi s2 x0 6) (8 : Int32)) / x1 * x1, s2) else none else none
set_option maxHeartbeats 4000000 in
theorem w_X4_draw_E {K : KT} {T : CT} {r : Int32} {τ : CD} (g : CG) (C : Kok K cX4_draw 2 RX4) (B : CB K T) (hr : (kMe K).sig.returnType = (some .int)) (dK : kR K = rmC 2 0 0) (hQ : KQc K T (some (.int r)) 0 0 g τ) (x0 : Nat) (x1 : Int32) (d : CD) (hf : f_X4_draw g x0 x1 d = some (r, τ)) : XJ K 2 (Wc K T 0 0 g d) 0 [(0, .ref x0), (1, .int x1)] [] := by
  unfold f_X4_draw at hf
  refine x_aload_n C dX4_draw_0 0 rfl ?_
  refine x_aload_n C dX4_draw_1 0 rfl ?_
  obtain ⟨t1, hf⟩ := pf_ch hf
  refine cg4_6 C B t1 (flo C q462) fsm dX4_draw_2 ?_
  refine x_ldc C q1112 dX4_draw_5 ?_
  refine x_imul C dX4_draw_7 ?_
  refine x_sipush (12345 : Int32) C dX4_draw_8 (by decide) ?_
  refine x_iadd C dX4_draw_11 ?_
  refine cp4_6 C B t1 (flo C q462) fsm dX4_draw_12 ?_
  obtain ⟨s2, es2, hf⟩ := pf_e hf
  refine c_ren es2 ?_
  refine x_aload_n C dX4_draw_15 0 rfl ?_
  refine cg4_6 C B t1 (flo C q462) fsm dX4_draw_16 ?_
  refine x_bipush (8 : Int32) C dX4_draw_19 (by decide) ?_
  refine x_iushr C dX4_draw_21 ?_
  refine x_iload_n C dX4_draw_22 1 rfl ?_
  obtain ⟨h3, hf⟩ := pf_ch hf
  refine x_irem C h3 dX4_draw_23 ?_
  obtain ⟨rfl, rfl⟩ := Prod.mk.inj (Option.some.inj hf)
  exact c_iret C hr hQ dX4_draw_24
theorem met_X4_draw {T : CT} {v : (Int32 × CD)} {g : CG} {d : CD} {x0 : Nat} {x1 : Int32} {l : Launch} (hf : f_X4_draw g x0 x1 d = some v) : Met l yX4_draw (ws_ yX4_draw cX4_draw 2 (some .int)) (rmC 2 0 0) (va_Pc [.ref x0, .int x1] (CU T g d)) (Qc T (some (.int v.1)) g v.2) 0 0 (cA T) :=
  c_met [.ref x0, .int x1] RX4 (by decide) rfl (Nat.le_of_ble_eq_true rfl) (fun K hl hR hr C B hQ => w_X4_draw_E _ C B hr hR hQ _ _ _ hf)
def f_X4_look_L32 (g : CG) (x0 : Nat) (x2 : Int32) (x3 : Nat) (y0 : Nat) (y1 : Int32) (y2 : Int32) (y3 : Int32) (d : CD) : Option CD := if ht g y0 = 5 then ev (wi d y0 2 (j_min y1 (y2 + y3))) fun s2 => if ht g x3 = 5 then ev (wi s2 x3 4 ((hi s2 x3 4) + (1 : Int32))) fun s4 => if ht g x0 = 4 then (hr g x0 2).bind fun p6 => if ht g p6 = 100 then if inb x2 (hn g p6) = true then ev (wi s4 p6 (Int32.toNatClampNeg x2) ((hi s4 p6 (Int32.toNatClampNeg x2)) + (1 : Int32))) fun s9 => some s9 else none else none else none else none else none
set_option maxHeartbeats 4000000 in
theorem w_X4_look_32 {K : KT} {T : CT} {τ : CD} (g : CG) (C : Kok K cX4_look 4 RX4) (B : CB K T) (hr : (kMe K).sig.returnType = none) (dK : kR K = rmC 2 0 0) (hQ : KQc K T none 0 0 g τ) (x0 : Nat) (x2 : Int32) (x3 : Nat) (y0 : Nat) (y1 : Int32) (y2 : Int32) (y3 : Int32) (d : CD) (hf : f_X4_look_L32 g x0 x2 x3 y0 y1 y2 y3 d = some τ) : XJ K 4 (Wc K T 0 0 g d) 32 [(0, .ref x0), (2, .int x2), (3, .ref x3)] [.int y3, .int y2, .int y1, .ref y0] := by
  unfold f_X4_look_L32 at hf
  refine x_iadd C dX4_look_32 ?_
  refine c_mmin C q1118 dK (Nat.le_of_ble_eq_true rfl) cz (Nat.le_of_ble_eq_true rfl) dX4_look_33 ?_
  obtain ⟨t1, hf⟩ := pf_ch hf
  refine cp5_2 C B t1 (fln B q420) fsm dX4_look_36 ?_
  obtain ⟨s2, es2, hf⟩ := pf_e hf
  refine c_ren es2 ?_
  refine x_aload_n C dX4_look_39 2 rfl ?_
  refine x_dup C dX4_look_40 rfl ?_
  obtain ⟨t3, hf⟩ := pf_ch hf
  refine cg5_4 C B t3 (fln B q428) fsm dX4_look_41 ?_
  refine x_iconst (1 : Int32) C dX4_look_44 (by decide) ?_
  refine x_iadd C dX4_look_45 ?_
  refine cp5_4 C B t3 (fln B q428) fsm dX4_look_46 ?_
  obtain ⟨s4, es4, hf⟩ := pf_e hf
  refine c_ren es4 ?_
  refine x_aload_n C dX4_look_49 0 rfl ?_
  obtain ⟨t5, hf⟩ := pf_ch hf
  obtain ⟨p6, ep6, hf⟩ := pf_b hf
  refine cg4_2 C B t5 (flo C q454) fsm ep6 dX4_look_50 ?_
  refine x_iload_n C dX4_look_53 1 rfl ?_
  refine x_dup2_11 C dX4_look_54 rfl rfl ?_
  obtain ⟨t7, hf⟩ := pf_ch hf
  obtain ⟨h8, hf⟩ := pf_in hf
  refine ca_ild C B t7 h8 dX4_look_55 ?_
  refine x_iconst (1 : Int32) C dX4_look_56 (by decide) ?_
  refine x_iadd C dX4_look_57 ?_
  refine ca_ist C B t7 h8 dX4_look_58 ?_
  obtain ⟨s9, es9, hf⟩ := pf_e hf
  refine c_ren es9 ?_
  obtain rfl := Option.some.inj hf
  exact c_vret C hr hQ dX4_look_59
def f_X4_look (g : CG) (x0 : Nat) (x1 : Nat) (x2 : Int32) (x3 : Nat) (d : CD) : Option CD := if ht g x3 = 5 then if (hi d x3 5) = 0 then (if ht g x1 = 3 then (hr g x1 13).bind fun p4 => if ht g p4 = 100 then if inb x2 (hn g p4) = true then f_X4_look_L32 g x0 x2 x3 x3 (999 : Int32) (hi d x3 2) (hi d p4 (Int32.toNatClampNeg x2)) d else none else none else none) else (if ht g x1 = 3 then (hr g x1 13).bind fun p8 => if ht g p8 = 100 then if inb x2 (hn g p8) = true then f_X4_look_L32 g x0 x2 x3 x3 (999 : Int32) (hi d x3 2) ((hi d p8 (Int32.toNatClampNeg x2)) / (2 : Int32)) d else none else none else none) else none
set_option maxHeartbeats 4000000 in
theorem w_X4_look_E {K : KT} {T : CT} {τ : CD} (g : CG) (C : Kok K cX4_look 4 RX4) (B : CB K T) (hr : (kMe K).sig.returnType = none) (dK : kR K = rmC 2 0 0) (hQ : KQc K T none 0 0 g τ) (x0 : Nat) (x1 : Nat) (x2 : Int32) (x3 : Nat) (d : CD) (hf : f_X4_look g x0 x1 x2 x3 d = some τ) : XJ K 4 (Wc K T 0 0 g d) 0 [(0, .ref x0), (1, .ref x1), (2, .int x2), (3, .ref x3)] [] := by
  unfold f_X4_look at hf
  refine x_aload_n C dX4_look_0 3 rfl ?_
  refine x_sipush (999 : Int32) C dX4_look_1 (by decide) ?_
  refine x_aload_n C dX4_look_4 3 rfl ?_
  obtain ⟨t1, hf⟩ := pf_ch hf
  refine cg5_2 C B t1 (fln B q420) fsm dX4_look_5 ?_
  refine x_aload_n C dX4_look_8 3 rfl ?_
  refine cg5_5 C B t1 (fln B q432) fsm dX4_look_9 ?_
  refine x_if_eq (tgt := 26) C dX4_look_12 (by decide) (fun c2 => ?_) (fun c2 => ?_)
  · have hf := pf_t c2 hf
    refine x_aload_n C dX4_look_26 1 rfl ?_
    obtain ⟨t3, hf⟩ := pf_ch hf
    obtain ⟨p4, ep4, hf⟩ := pf_b hf
    refine cg3_13 C B t3 (fln B q313) fsm ep4 dX4_look_27 ?_
    refine x_iload_n C dX4_look_30 2 rfl ?_
    obtain ⟨t5, hf⟩ := pf_ch hf
    obtain ⟨h6, hf⟩ := pf_in hf
    refine ca_ild C B t5 h6 dX4_look_31 ?_
    refine x_sub [0, 2, 3] (L' := [(0, .ref x0), (2, .int x2), (3, .ref x3)]) rfl ?_
    exact w_X4_look_32 g C B hr dK hQ x0 x2 x3 x3 (999 : Int32) (hi d x3 2) (hi d p4 (Int32.toNatClampNeg x2)) _ hf
  · have hf := pf_f c2 hf
    refine x_aload_n C dX4_look_15 1 rfl ?_
    obtain ⟨t7, hf⟩ := pf_ch hf
    obtain ⟨p8, ep8, hf⟩ := pf_b hf
    refine cg3_13 C B t7 (fln B q313) fsm ep8 dX4_look_16 ?_
    refine x_iload_n C dX4_look_19 2 rfl ?_
    obtain ⟨t9, hf⟩ := pf_ch hf
    obtain ⟨h10, hf⟩ := pf_in hf
    refine ca_ild C B t9 h10 dX4_look_20 ?_
    refine x_iconst (2 : Int32) C dX4_look_21 (by decide) ?_
    refine x_idiv C (by decide) dX4_look_22 ?_
    refine x_goto (tgt := 32) C dX4_look_23 (by decide) ?_
    refine x_sub [0, 2, 3] (L' := [(0, .ref x0), (2, .int x2), (3, .ref x3)]) rfl ?_
    exact w_X4_look_32 g C B hr dK hQ x0 x2 x3 x3 (999 : Int32) (hi d x3 2) ((hi d p8 (Int32.toNatClampNeg x2)) / (2 : Int32)) _ hf
theorem met_X4_look {T : CT} {v : CD} {g : CG} {d : CD} {x0 : Nat} {x1 : Nat} {x2 : Int32} {x3 : Nat} {l : Launch} (hf : f_X4_look g x0 x1 x2 x3 d = some v) : Met l yX4_look (ws_ yX4_look cX4_look 4 none) (rmC 2 0 0) (va_Pc [.ref x0, .ref x1, .int x2, .ref x3] (CU T g d)) (Qc T none g v) 0 0 (cA T) :=
  c_met [.ref x0, .ref x1, .int x2, .ref x3] RX4 (by decide) rfl (Nat.le_of_ble_eq_true rfl) (fun K hl hR hr C B hQ => w_X4_look_E _ C B hr hR hQ _ _ _ _ _ hf)
def f_X4_tires (g : CG) (x0 : Nat) (x1 : Int32) (x2 : Int32) (d : CD) : Option CD := if ht g x0 = 4 then (hr g x0 1).bind fun p2 => if x2 = 0 then (if ht g p2 = 100 then if inb x1 (hn g p2) = true then ev (wi d p2 (Int32.toNatClampNeg x1) (j_max (0 : Int32) ((hi d p2 (Int32.toNatClampNeg x1)) - (1 : Int32)))) fun s6 => some s6 else none else none) else (if ht g p2 = 100 then if inb x1 (hn g p2) = true then ev (wi d p2 (Int32.toNatClampNeg x1) (j_min (3 : Int32) ((hi d p2 (Int32.toNatClampNeg x1)) + (1 : Int32)))) fun s9 => some s9 else none else none) else none
set_option maxHeartbeats 4000000 in
theorem w_X4_tires_E {K : KT} {T : CT} {τ : CD} (g : CG) (C : Kok K cX4_tires 3 RX4) (B : CB K T) (hr : (kMe K).sig.returnType = none) (dK : kR K = rmC 2 0 0) (hQ : KQc K T none 0 0 g τ) (x0 : Nat) (x1 : Int32) (x2 : Int32) (d : CD) (hf : f_X4_tires g x0 x1 x2 d = some τ) : XJ K 3 (Wc K T 0 0 g d) 0 [(0, .ref x0), (1, .int x1), (2, .int x2)] [] := by
  unfold f_X4_tires at hf
  refine x_aload_n C dX4_tires_0 0 rfl ?_
  obtain ⟨t1, hf⟩ := pf_ch hf
  obtain ⟨p2, ep2, hf⟩ := pf_b hf
  refine cg4_1 C B t1 (flo C q452) fsm ep2 dX4_tires_1 ?_
  refine x_iload_n C dX4_tires_4 1 rfl ?_
  refine x_iload_n C dX4_tires_5 2 rfl ?_
  refine x_if_eq (tgt := 24) C dX4_tires_6 (by decide) (fun c3 => ?_) (fun c3 => ?_)
  · have hf := pf_t c3 hf
    refine x_iconst (0 : Int32) C dX4_tires_24 (by decide) ?_
    refine x_aload_n C dX4_tires_25 0 rfl ?_
    refine cg4_1 C B t1 (flo C q452) fsm ep2 dX4_tires_26 ?_
    refine x_iload_n C dX4_tires_29 1 rfl ?_
    obtain ⟨t4, hf⟩ := pf_ch hf
    obtain ⟨h5, hf⟩ := pf_in hf
    refine ca_ild C B t4 h5 dX4_tires_30 ?_
    refine x_iconst (1 : Int32) C dX4_tires_31 (by decide) ?_
    refine x_isub C dX4_tires_32 ?_
    refine c_mmax C q1131 dK (Nat.le_of_ble_eq_true rfl) cz (Nat.le_of_ble_eq_true rfl) dX4_tires_33 ?_
    refine ca_ist C B t4 h5 dX4_tires_36 ?_
    obtain ⟨s6, es6, hf⟩ := pf_e hf
    refine c_ren es6 ?_
    obtain rfl := Option.some.inj hf
    exact c_vret C hr hQ dX4_tires_37
  · have hf := pf_f c3 hf
    refine x_iconst (3 : Int32) C dX4_tires_9 (by decide) ?_
    refine x_aload_n C dX4_tires_10 0 rfl ?_
    refine cg4_1 C B t1 (flo C q452) fsm ep2 dX4_tires_11 ?_
    refine x_iload_n C dX4_tires_14 1 rfl ?_
    obtain ⟨t7, hf⟩ := pf_ch hf
    obtain ⟨h8, hf⟩ := pf_in hf
    refine ca_ild C B t7 h8 dX4_tires_15 ?_
    refine x_iconst (1 : Int32) C dX4_tires_16 (by decide) ?_
    refine x_iadd C dX4_tires_17 ?_
    refine c_mmin C q1118 dK (Nat.le_of_ble_eq_true rfl) cz (Nat.le_of_ble_eq_true rfl) dX4_tires_18 ?_
    refine x_goto (tgt := 36) C dX4_tires_21 (by decide) ?_
    refine ca_ist C B t7 h8 dX4_tires_36 ?_
    obtain ⟨s9, es9, hf⟩ := pf_e hf
    refine c_ren es9 ?_
    obtain rfl := Option.some.inj hf
    exact c_vret C hr hQ dX4_tires_37
theorem met_X4_tires {T : CT} {v : CD} {g : CG} {d : CD} {x0 : Nat} {x1 : Int32} {x2 : Int32} {l : Launch} (hf : f_X4_tires g x0 x1 x2 d = some v) : Met l yX4_tires (ws_ yX4_tires cX4_tires 3 none) (rmC 2 0 0) (va_Pc [.ref x0, .int x1, .int x2] (CU T g d)) (Qc T none g v) 0 0 (cA T) :=
  c_met [.ref x0, .int x1, .int x2] RX4 (by decide) rfl (Nat.le_of_ble_eq_true rfl) (fun K hl hR hr C B hQ => w_X4_tires_E _ C B hr hR hQ _ _ _ _ hf)
def f_X5_pay (g : CG) (x0 : Nat) (x1 : Int32) (d : CD) : Option (Int32 × CD) := if ht g x0 = 5 then ev (wi d x0 3 ((hi d x0 3) + x1)) fun s2 => ev (j_min (hi s2 x0 3) (hi s2 x0 2)) fun v3 => ev (wi s2 x0 3 ((hi s2 x0 3) - v3)) fun s4 => ev (wi s4 x0 2 ((hi s4 x0 2) - v3)) fun s5 => some (v3, s5) else none
set_option maxHeartbeats 4000000 in
theorem w_X5_pay_E {K : KT} {T : CT} {r : Int32} {τ : CD} (g : CG) (C : Kok K cX5_pay 3 RX5) (B : CB K T) (hr : (kMe K).sig.returnType = (some .int)) (dK : kR K = rmC 2 0 0) (hQ : KQc K T (some (.int r)) 0 0 g τ) (x0 : Nat) (x1 : Int32) (d : CD) (hf : f_X5_pay g x0 x1 d = some (r, τ)) : XJ K 3 (Wc K T 0 0 g d) 0 [(0, .ref x0), (1, .int x1)] [] := by
  unfold f_X5_pay at hf
  refine x_aload_n C dX5_pay_0 0 rfl ?_
  refine x_dup C dX5_pay_1 rfl ?_
  obtain ⟨t1, hf⟩ := pf_ch hf
  refine cg5_3 C B t1 (flo C q422) fsm dX5_pay_2 ?_
  refine x_iload_n C dX5_pay_5 1 rfl ?_
  refine x_iadd C dX5_pay_6 ?_
  refine cp5_3 C B t1 (flo C q422) fsm dX5_pay_7 ?_
  obtain ⟨s2, es2, hf⟩ := pf_e hf
  refine c_ren es2 ?_
  refine x_aload_n C dX5_pay_10 0 rfl ?_
  refine cg5_3 C B t1 (flo C q422) fsm dX5_pay_11 ?_
  refine x_aload_n C dX5_pay_14 0 rfl ?_
  refine cg5_2 C B t1 (flo C q418) fsm dX5_pay_15 ?_
  refine c_mmin C q1125 dK (Nat.le_of_ble_eq_true rfl) cz (Nat.le_of_ble_eq_true rfl) dX5_pay_18 ?_
  obtain ⟨v3, ev3, hf⟩ := pf_e hf
  refine x_topir ev3 ?_
  refine x_istore_n (L' := [(0, .ref x0), (2, .int v3)]) C dX5_pay_21 (Nat.le_of_ble_eq_true rfl) [1, 0] rfl ?_
  refine x_aload_n C dX5_pay_22 0 rfl ?_
  refine x_dup C dX5_pay_23 rfl ?_
  refine cg5_3 C B t1 (flo C q422) fsm dX5_pay_24 ?_
  refine x_iload_n C dX5_pay_27 1 rfl ?_
  refine x_isub C dX5_pay_28 ?_
  refine cp5_3 C B t1 (flo C q422) fsm dX5_pay_29 ?_
  obtain ⟨s4, es4, hf⟩ := pf_e hf
  refine c_ren es4 ?_
  refine x_aload_n C dX5_pay_32 0 rfl ?_
  refine x_dup C dX5_pay_33 rfl ?_
  refine cg5_2 C B t1 (flo C q418) fsm dX5_pay_34 ?_
  refine x_iload_n C dX5_pay_37 1 rfl ?_
  refine x_isub C dX5_pay_38 ?_
  refine cp5_2 C B t1 (flo C q418) fsm dX5_pay_39 ?_
  obtain ⟨s5, es5, hf⟩ := pf_e hf
  refine c_ren es5 ?_
  refine x_iload_n C dX5_pay_42 1 rfl ?_
  obtain ⟨rfl, rfl⟩ := Prod.mk.inj (Option.some.inj hf)
  exact c_iret C hr hQ dX5_pay_43
theorem met_X5_pay {T : CT} {v : (Int32 × CD)} {g : CG} {d : CD} {x0 : Nat} {x1 : Int32} {l : Launch} (hf : f_X5_pay g x0 x1 d = some v) : Met l yX5_pay (ws_ yX5_pay cX5_pay 3 (some .int)) (rmC 2 0 0) (va_Pc [.ref x0, .int x1] (CU T g d)) (Qc T (some (.int v.1)) g v.2) 0 0 (cA T) :=
  c_met [.ref x0, .int x1] RX5 (by decide) rfl (Nat.le_of_ble_eq_true rfl) (fun K hl hR hr C B hQ => w_X5_pay_E _ C B hr hR hQ _ _ _ hf)
theorem k_X4_at_X4 {K : KT} {T : CT} {c0 s0 c1 s1 dk : Nat} {cc : ByteArray} {nL pc : Nat} {L : List (Nat × Value)} {rest : List Value} {g : CG} {d : CD} {v : Int32} {n : Nat} {x0 : Nat} {x1 : Nat} {x2 : Int32} (C : Kok K cc nL RX4) (B : CB K T) (hta : ht g x0 = 4) (dK : kR K = rmC dk c1 s1) (hd : 2 + 1 ≤ dk) (hcs : c0 + 0 ≤ c1 ∧ s0 + 0 ≤ s1) (hf : f_X4_at n g d x0 x1 x2 = some v) (hW : (rest.map fun v => v.category).sum ≤ 8) (dd : decode cc pc = .ok (.invokevirtual 106, 3)) (kk2 : XJ K nL (Wc K T c0 s0 g d) (pc + 3) L ((.int v) :: rest)) : XJ K nL (Wc K T c0 s0 g d) pc L (.int x2 :: .ref x1 :: .ref x0 :: rest) :=
  c_callV (rest := rest) (v := (some (.int v))) [.ref x1, .int x2] 2 rfl C B hta (by decide) (by decide) rfl dK hd (Nat.le_of_ble_eq_true rfl) hcs (lw_V q1050 q975 q976 q126 q977) (by decide +kernel) (met_X4_at hf) rfl hW dd kk2
theorem k_X4_draw_X4 {K : KT} {T : CT} {c0 s0 c1 s1 dk : Nat} {cc : ByteArray} {nL pc : Nat} {L : List (Nat × Value)} {rest : List Value} {g : CG} {d : CD} {v : (Int32 × CD)} {x0 : Nat} {x1 : Int32} (C : Kok K cc nL RX4) (B : CB K T) (hta : ht g x0 = 4) (dK : kR K = rmC dk c1 s1) (hd : 2 + 1 ≤ dk) (hcs : c0 + 0 ≤ c1 ∧ s0 + 0 ≤ s1) (hf : f_X4_draw g x0 x1 d = some v) (hW : (rest.map fun v => v.category).sum ≤ 8) (dd : decode cc pc = .ok (.invokevirtual 110, 3)) (kk2 : XJ K nL (Wc K T c0 s0 g v.2) (pc + 3) L ((.int v.1) :: rest)) : XJ K nL (Wc K T c0 s0 g d) pc L (.int x1 :: .ref x0 :: rest) :=
  c_callV (rest := rest) (v := (some (.int v.1))) [.int x1] 1 rfl C B hta (by decide) (by decide) rfl dK hd (Nat.le_of_ble_eq_true rfl) hcs (lw_V q1108 q1110 qs14 q126 q1111) (by decide +kernel) (met_X4_draw hf) rfl hW dd kk2
theorem k_X4_chance_X4 {K : KT} {T : CT} {c0 s0 c1 s1 dk : Nat} {cc : ByteArray} {nL pc : Nat} {L : List (Nat × Value)} {rest : List Value} {g : CG} {d : CD} {v : Int32} {x0 : Nat} {x1 : Nat} {x2 : Int32} {x3 : Int32} (C : Kok K cc nL RX4) (B : CB K T) (hta : ht g x0 = 4) (dK : kR K = rmC dk c1 s1) (hd : 3 + 1 ≤ dk) (hcs : c0 + 0 ≤ c1 ∧ s0 + 0 ≤ s1) (hf : f_X4_chance g d x0 x1 x2 x3 = some v) (hW : (rest.map fun v => v.category).sum ≤ 8) (dd : decode cc pc = .ok (.invokevirtual 114, 3)) (kk2 : XJ K nL (Wc K T c0 s0 g d) (pc + 3) L ((.int v) :: rest)) : XJ K nL (Wc K T c0 s0 g d) pc L (.int x3 :: .int x2 :: .ref x1 :: .ref x0 :: rest) :=
  c_callV (rest := rest) (v := (some (.int v))) [.ref x1, .int x2, .int x3] 3 rfl C B hta (by decide) (by decide) rfl dK hd (Nat.le_of_ble_eq_true rfl) hcs (lw_V q1113 q1007 q1008 q126 q1009) (by decide +kernel) (met_X4_chance hf) rfl hW dd kk2
theorem k_X4_look_X4 {K : KT} {T : CT} {c0 s0 c1 s1 dk : Nat} {cc : ByteArray} {nL pc : Nat} {L : List (Nat × Value)} {rest : List Value} {g : CG} {d : CD} {v : CD} {x0 : Nat} {x1 : Nat} {x2 : Int32} {x3 : Nat} (C : Kok K cc nL RX4) (B : CB K T) (hta : ht g x0 = 4) (dK : kR K = rmC dk c1 s1) (hd : 2 + 1 ≤ dk) (hcs : c0 + 0 ≤ c1 ∧ s0 + 0 ≤ s1) (hf : f_X4_look g x0 x1 x2 x3 d = some v) (hW : (rest.map fun v => v.category).sum ≤ 8) (dd : decode cc pc = .ok (.invokevirtual 118, 3)) (kk2 : XJ K nL (Wc K T c0 s0 g v) (pc + 3) L (rest)) : XJ K nL (Wc K T c0 s0 g d) pc L (.ref x3 :: .int x2 :: .ref x1 :: .ref x0 :: rest) :=
  c_callV (rest := rest) (v := none) [.ref x1, .int x2, .ref x3] 3 rfl C B hta (by decide) (by decide) rfl dK hd (Nat.le_of_ble_eq_true rfl) hcs (lw_V q1114 q1116 qs15 q126 q1117) (by decide +kernel) (met_X4_look hf) rfl hW dd kk2
theorem k_X1_has_X4 {K : KT} {T : CT} {c0 s0 c1 s1 dk : Nat} {cc : ByteArray} {nL pc : Nat} {L : List (Nat × Value)} {rest : List Value} {g : CG} {d : CD} {v : Int32} {x0 : Int32} {x1 : Int32} (C : Kok K cc nL RX4) (B : CB K T) (dK : kR K = rmC dk c1 s1) (hd : 2 + 1 ≤ dk) (hcs : c0 + 0 ≤ c1 ∧ s0 + 0 ≤ s1) (hf : f_X1_has x0 x1 = v) (hW : (rest.map fun v => v.category).sum ≤ 8) (dd : decode cc pc = .ok (.invokestatic 125, 3)) (kk2 : XJ K nL (Wc K T c0 s0 g d) (pc + 3) L ((.int v) :: rest)) : XJ K nL (Wc K T c0 s0 g d) pc L (.int x1 :: .int x0 :: rest) :=
  c_callSN (rest := rest) (v := (some (.int v))) [.int x0, .int x1] 2 rfl C B dK hd (Nat.le_of_ble_eq_true rfl) hcs (lw_meth q930) q1126 q929 q121 (by decide +kernel) (met_X1_has hf) rfl hW dd kk2
theorem k_X4_tires_X4 {K : KT} {T : CT} {c0 s0 c1 s1 dk : Nat} {cc : ByteArray} {nL pc : Nat} {L : List (Nat × Value)} {rest : List Value} {g : CG} {d : CD} {v : CD} {x0 : Nat} {x1 : Int32} {x2 : Int32} (C : Kok K cc nL RX4) (B : CB K T) (hta : ht g x0 = 4) (dK : kR K = rmC dk c1 s1) (hd : 2 + 1 ≤ dk) (hcs : c0 + 0 ≤ c1 ∧ s0 + 0 ≤ s1) (hf : f_X4_tires g x0 x1 x2 d = some v) (hW : (rest.map fun v => v.category).sum ≤ 8) (dd : decode cc pc = .ok (.invokevirtual 132, 3)) (kk2 : XJ K nL (Wc K T c0 s0 g v) (pc + 3) L (rest)) : XJ K nL (Wc K T c0 s0 g d) pc L (.int x2 :: .int x1 :: .ref x0 :: rest) :=
  c_callV (rest := rest) (v := none) [.int x1, .int x2] 2 rfl C B hta (by decide) (by decide) rfl dK hd (Nat.le_of_ble_eq_true rfl) hcs (lw_V q1127 q1129 qs16 q126 q1130) (by decide +kernel) (met_X4_tires hf) rfl hW dd kk2
theorem k_X5_pay_X4 {K : KT} {T : CT} {c0 s0 c1 s1 dk : Nat} {cc : ByteArray} {nL pc : Nat} {L : List (Nat × Value)} {rest : List Value} {g : CG} {d : CD} {v : (Int32 × CD)} {x0 : Nat} {x1 : Int32} (C : Kok K cc nL RX4) (B : CB K T) (hta : ht g x0 = 5) (dK : kR K = rmC dk c1 s1) (hd : 2 + 1 ≤ dk) (hcs : c0 + 0 ≤ c1 ∧ s0 + 0 ≤ s1) (hf : f_X5_pay g x0 x1 d = some v) (hW : (rest.map fun v => v.category).sum ≤ 8) (dd : decode cc pc = .ok (.invokevirtual 122, 3)) (kk2 : XJ K nL (Wc K T c0 s0 g v.2) (pc + 3) L ((.int v.1) :: rest)) : XJ K nL (Wc K T c0 s0 g d) pc L (.int x1 :: .ref x0 :: rest) :=
  c_callV (rest := rest) (v := (some (.int v.1))) [.int x1] 1 rfl C B hta (by decide) (by decide) rfl dK hd (Nat.le_of_ble_eq_true rfl) hcs (lw_V q1121 q1122 q1123 q127 q1124) (by decide +kernel) (met_X5_pay hf) rfl hW dd kk2
def f_X4_goOn_L52 (n : Nat) (g : CG) (k4 : Nat → Nat → Int32 → Int32 → CD → Option CD) : Nat → Nat → Nat → Int32 → Int32 → Nat → Int32 → Int32 → CD → Option CD
  | 0, _, _, _, _, _, _, _, _ => none
  | m + 1, x0, x1, x2, x3, x4, x5, x6, d => if x5 ≤ x6 then (k4 x0 x1 x2 (x3 + (1 : Int32)) d) else (if ht g x4 = 100 then if inb x6 (hn g x4) = true then ev (hi d x4 (Int32.toNatClampNeg x6)) fun v4 => if ht g x0 = 4 then (f_X4_at n g d x0 x1 v4).bind fun r6 => if r6 = (-1 : Int32) then (f_X4_goOn_L52 n g k4 m x0 x1 x2 x3 x4 x5 (x6 + (1 : Int32)) d) else ((f_X4_draw g x0 (12 : Int32) d).bind fun r8 => (hr g x0 0).bind fun p9 => if ht g p9 = 105 then if inb r6 (hn g p9) = true then (hr g p9 (Int32.toNatClampNeg r6)).bind fun p12 => if ht g p12 = 5 then (f_X4_chance g r8.2 x0 x1 x3 (hi r8.2 p12 0)).bind fun r14 => if r8.1 < r14 then ((f_X4_look g x0 x1 x3 p12 r8.2).bind fun r16 => ev (x2 ||| ((1 : Int32) <<< (r6 &&& 31))) fun v17 => (hr g x0 3).bind fun p18 => if ht g p18 = 100 then if inb x3 (hn g p18) = true then ev (wi r16 p18 (Int32.toNatClampNeg x3) ((hi r16 p18 (Int32.toNatClampNeg x3)) ||| ((1 : Int32) <<< ((hi r16 p12 0) &&& 31)))) fun s21 => f_X4_goOn_L52 n g k4 m x0 x1 v17 x3 x4 x5 (x6 + (1 : Int32)) s21 else none else none) else (f_X4_goOn_L52 n g k4 m x0 x1 x2 x3 x4 x5 (x6 + (1 : Int32)) r8.2) else none else none else none) else none else none else none)
set_option maxHeartbeats 4000000 in
theorem w_X4_goOn_52 {K : KT} {T : CT} {τ : CD} (n : Nat) (g : CG) (k4 : Nat → Nat → Int32 → Int32 → CD → Option CD) (C : Kok K cX4_goOn 9 RX4) (B : CB K T) (hr : (kMe K).sig.returnType = none) (dK : kR K = rmC 4 0 0) (hQ : KQc K T none 0 0 g τ)  (hk4 : ∀ (x0 : Nat) (x1 : Nat) (x2 : Int32) (x3 : Int32) (d : CD), k4 x0 x1 x2 x3 d = some τ → XJ K 9 (Wc K T 0 0 g d) 4 [(0, .ref x0), (1, .ref x1), (2, .int x2), (3, .int x3)] []) : ∀ (m : Nat) (x0 : Nat) (x1 : Nat) (x2 : Int32) (x3 : Int32) (x4 : Nat) (x5 : Int32) (x6 : Int32) (d : CD) (hf : f_X4_goOn_L52 n g k4 m x0 x1 x2 x3 x4 x5 x6 d = some τ), XJ K 9 (Wc K T 0 0 g d) 52 [(0, .ref x0), (1, .ref x1), (2, .int x2), (3, .int x3), (4, .ref x4), (5, .int x5), (6, .int x6)] [] := by
  intro m
  induction m with
  | zero => intro x0 x1 x2 x3 x4 x5 x6 d hf; cases hf
  | succ m ih =>
    intro x0 x1 x2 x3 x4 x5 x6 d hf
    rw [f_X4_goOn_L52] at hf
    refine x_iload C dX4_goOn_52 6 rfl ?_
    refine x_iload C dX4_goOn_54 5 rfl ?_
    refine x_icmp_ge (tgt := 156) C dX4_goOn_56 (by decide) (fun c1 => ?_) (fun c1 => ?_)
    · have hf := pf_t c1 hf
      refine x_inc (c := (1 : Int32)) (L' := [(0, .ref x0), (1, .ref x1), (2, .int x2), (3, .int (x3 + (1 : Int32)))]) C dX4_goOn_156 3 rfl (by decide) (Nat.le_of_ble_eq_true rfl) [1, 2, 3, 0] rfl ?_
      refine x_goto (tgt := 4) C dX4_goOn_159 (by decide) ?_
      exact hk4 x0 x1 x2 (x3 + (1 : Int32)) _ hf
    · have hf := pf_f c1 hf
      refine x_aload C dX4_goOn_59 4 rfl ?_
      refine x_iload C dX4_goOn_61 6 rfl ?_
      obtain ⟨t2, hf⟩ := pf_ch hf
      obtain ⟨h3, hf⟩ := pf_in hf
      refine ca_ild C B t2 h3 dX4_goOn_63 ?_
      obtain ⟨v4, ev4, hf⟩ := pf_e hf
      refine x_topir ev4 ?_
      refine x_istore (L' := [(0, .ref x0), (1, .ref x1), (2, .int x2), (3, .int x3), (4, .ref x4), (5, .int x5), (6, .int x6), (7, .int v4)]) C dX4_goOn_64 (Nat.le_of_ble_eq_true rfl) [1, 2, 3, 4, 5, 6, 7, 0] rfl ?_
      refine x_aload_n C dX4_goOn_66 0 rfl ?_
      refine x_aload_n C dX4_goOn_67 1 rfl ?_
      refine x_iload C dX4_goOn_68 7 rfl ?_
      obtain ⟨t5, hf⟩ := pf_ch hf
      obtain ⟨r6, er6, hf⟩ := pf_b hf
      refine k_X4_at_X4 C B t5 dK (Nat.le_of_ble_eq_true rfl) cz er6 (Nat.le_of_ble_eq_true rfl) dX4_goOn_70 ?_
      refine x_istore (L' := [(0, .ref x0), (1, .ref x1), (2, .int x2), (3, .int x3), (4, .ref x4), (5, .int x5), (6, .int x6), (8, .int r6)]) C dX4_goOn_73 (Nat.le_of_ble_eq_true rfl) [1, 2, 3, 4, 5, 6, 7, 0] rfl ?_
      refine x_iload C dX4_goOn_75 7 rfl ?_
      refine x_iconst (-1 : Int32) C dX4_goOn_77 (by decide) ?_
      refine x_icmp_eq (tgt := 150) C dX4_goOn_78 (by decide) (fun c7 => ?_) (fun c7 => ?_)
      · have hf := pf_t c7 hf
        refine x_inc (c := (1 : Int32)) (L' := [(0, .ref x0), (1, .ref x1), (2, .int x2), (3, .int x3), (4, .ref x4), (5, .int x5), (6, .int (x6 + (1 : Int32)))]) C dX4_goOn_150 6 rfl (by decide) (Nat.le_of_ble_eq_true rfl) [1, 2, 3, 4, 5, 6, 0] rfl ?_
        refine x_goto (tgt := 52) C dX4_goOn_153 (by decide) ?_
        exact ih x0 x1 x2 x3 x4 x5 (x6 + (1 : Int32)) _ hf
      · have hf := pf_f c7 hf
        refine x_aload_n C dX4_goOn_81 0 rfl ?_
        refine x_bipush (12 : Int32) C dX4_goOn_82 (by decide) ?_
        obtain ⟨r8, er8, hf⟩ := pf_b hf
        refine k_X4_draw_X4 C B t5 dK (Nat.le_of_ble_eq_true rfl) cz er8 (Nat.le_of_ble_eq_true rfl) dX4_goOn_84 ?_
        refine x_aload_n C dX4_goOn_87 0 rfl ?_
        refine x_aload_n C dX4_goOn_88 1 rfl ?_
        refine x_iload_n C dX4_goOn_89 3 rfl ?_
        refine x_aload_n C dX4_goOn_90 0 rfl ?_
        obtain ⟨p9, ep9, hf⟩ := pf_b hf
        refine cg4_0 C B t5 (flo C q447) fsm ep9 dX4_goOn_91 ?_
        refine x_iload C dX4_goOn_94 7 rfl ?_
        obtain ⟨t10, hf⟩ := pf_ch hf
        obtain ⟨h11, hf⟩ := pf_in hf
        obtain ⟨p12, ep12, hf⟩ := pf_b hf
        refine ca_ald5 C B t10 h11 ep12 dX4_goOn_96 ?_
        obtain ⟨t13, hf⟩ := pf_ch hf
        refine cg5_0 C B t13 (fln B q411) fsm dX4_goOn_97 ?_
        obtain ⟨r14, er14, hf⟩ := pf_b hf
        refine k_X4_chance_X4 C B t5 dK (Nat.le_of_ble_eq_true rfl) cz er14 (Nat.le_of_ble_eq_true rfl) dX4_goOn_100 ?_
        refine x_icmp_lt (tgt := 109) C dX4_goOn_103 (by decide) (fun c15 => ?_) (fun c15 => ?_)
        · have hf := pf_t c15 hf
          refine x_aload_n C dX4_goOn_109 0 rfl ?_
          refine x_aload_n C dX4_goOn_110 1 rfl ?_
          refine x_iload_n C dX4_goOn_111 3 rfl ?_
          refine x_aload_n C dX4_goOn_112 0 rfl ?_
          refine cg4_0 C B t5 (flo C q447) fsm ep9 dX4_goOn_113 ?_
          refine x_iload C dX4_goOn_116 7 rfl ?_
          refine ca_ald5 C B t10 h11 ep12 dX4_goOn_118 ?_
          obtain ⟨r16, er16, hf⟩ := pf_b hf
          refine k_X4_look_X4 C B t5 dK (Nat.le_of_ble_eq_true rfl) cz er16 (Nat.le_of_ble_eq_true rfl) dX4_goOn_119 ?_
          refine x_iload_n C dX4_goOn_122 2 rfl ?_
          refine x_iconst (1 : Int32) C dX4_goOn_123 (by decide) ?_
          refine x_iload C dX4_goOn_124 7 rfl ?_
          refine x_ishl C dX4_goOn_126 ?_
          refine x_ior C dX4_goOn_127 ?_
          obtain ⟨v17, ev17, hf⟩ := pf_e hf
          refine x_topir ev17 ?_
          refine x_istore_n (L' := [(0, .ref x0), (1, .ref x1), (2, .int v17), (3, .int x3), (4, .ref x4), (5, .int x5), (6, .int x6), (8, .int r6)]) C dX4_goOn_128 (Nat.le_of_ble_eq_true rfl) [1, 2, 0, 3, 4, 5, 6, 7] rfl ?_
          refine x_aload_n C dX4_goOn_129 0 rfl ?_
          obtain ⟨p18, ep18, hf⟩ := pf_b hf
          refine cg4_3 C B t5 (flo C q456) fsm ep18 dX4_goOn_130 ?_
          refine x_iload_n C dX4_goOn_133 3 rfl ?_
          refine x_dup2_11 C dX4_goOn_134 rfl rfl ?_
          obtain ⟨t19, hf⟩ := pf_ch hf
          obtain ⟨h20, hf⟩ := pf_in hf
          refine ca_ild C B t19 h20 dX4_goOn_135 ?_
          refine x_iconst (1 : Int32) C dX4_goOn_136 (by decide) ?_
          refine x_aload_n C dX4_goOn_137 0 rfl ?_
          refine cg4_0 C B t5 (flo C q447) fsm ep9 dX4_goOn_138 ?_
          refine x_iload C dX4_goOn_141 7 rfl ?_
          refine ca_ald5 C B t10 h11 ep12 dX4_goOn_143 ?_
          refine cg5_0 C B t13 (fln B q411) fsm dX4_goOn_144 ?_
          refine x_ishl C dX4_goOn_147 ?_
          refine x_ior C dX4_goOn_148 ?_
          refine ca_ist C B t19 h20 dX4_goOn_149 ?_
          obtain ⟨s21, es21, hf⟩ := pf_e hf
          refine c_ren es21 ?_
          refine x_inc (c := (1 : Int32)) (L' := [(0, .ref x0), (1, .ref x1), (2, .int v17), (3, .int x3), (4, .ref x4), (5, .int x5), (6, .int (x6 + (1 : Int32)))]) C dX4_goOn_150 6 rfl (by decide) (Nat.le_of_ble_eq_true rfl) [1, 2, 3, 4, 5, 6, 0] rfl ?_
          refine x_goto (tgt := 52) C dX4_goOn_153 (by decide) ?_
          exact ih x0 x1 v17 x3 x4 x5 (x6 + (1 : Int32)) _ hf
        · have hf := pf_f c15 hf
          refine x_goto (tgt := 150) C dX4_goOn_106 (by decide) ?_
          refine x_inc (c := (1 : Int32)) (L' := [(0, .ref x0), (1, .ref x1), (2, .int x2), (3, .int x3), (4, .ref x4), (5, .int x5), (6, .int (x6 + (1 : Int32)))]) C dX4_goOn_150 6 rfl (by decide) (Nat.le_of_ble_eq_true rfl) [1, 2, 3, 4, 5, 6, 0] rfl ?_
          refine x_goto (tgt := 52) C dX4_goOn_153 (by decide) ?_
          exact ih x0 x1 x2 x3 x4 x5 (x6 + (1 : Int32)) _ hf
def f_X4_goOn_L248 (n : Nat) (g : CG) (k237 : Nat → Nat → Int32 → CD → Option CD) : Nat → Nat → Nat → Int32 → Int32 → CD → Option CD
  | 0, _, _, _, _, _ => none
  | m + 1, x0, x1, x3, x4, d => if ht g x1 = 3 then if (hi d x1 19) ≤ x4 then (k237 x0 x1 (x3 + (1 : Int32)) d) else (if ht g x0 = 4 then (hr g x0 3).bind fun p4 => if ht g p4 = 100 then if inb x3 (hn g p4) = true then (f_X4_tires g x0 (((5 : Int32) * x3) + x4) (f_X1_has (hi d p4 (Int32.toNatClampNeg x3)) x4) d).bind fun r7 => f_X4_goOn_L248 n g k237 m x0 x1 x3 (x4 + (1 : Int32)) r7 else none else none else none) else none
set_option maxHeartbeats 4000000 in
theorem w_X4_goOn_248 {K : KT} {T : CT} {τ : CD} (n : Nat) (g : CG) (k237 : Nat → Nat → Int32 → CD → Option CD) (C : Kok K cX4_goOn 9 RX4) (B : CB K T) (hr : (kMe K).sig.returnType = none) (dK : kR K = rmC 4 0 0) (hQ : KQc K T none 0 0 g τ)  (hk237 : ∀ (x0 : Nat) (x1 : Nat) (x3 : Int32) (d : CD), k237 x0 x1 x3 d = some τ → XJ K 9 (Wc K T 0 0 g d) 237 [(0, .ref x0), (1, .ref x1), (3, .int x3)] []) : ∀ (m : Nat) (x0 : Nat) (x1 : Nat) (x3 : Int32) (x4 : Int32) (d : CD) (hf : f_X4_goOn_L248 n g k237 m x0 x1 x3 x4 d = some τ), XJ K 9 (Wc K T 0 0 g d) 248 [(0, .ref x0), (1, .ref x1), (3, .int x3), (4, .int x4)] [] := by
  intro m
  induction m with
  | zero => intro x0 x1 x3 x4 d hf; cases hf
  | succ m ih =>
    intro x0 x1 x3 x4 d hf
    rw [f_X4_goOn_L248] at hf
    refine x_iload C dX4_goOn_248 3 rfl ?_
    refine x_aload_n C dX4_goOn_250 1 rfl ?_
    obtain ⟨t1, hf⟩ := pf_ch hf
    refine cg3_19 C B t1 (fln B q332) fsm dX4_goOn_251 ?_
    refine x_icmp_ge (tgt := 284) C dX4_goOn_254 (by decide) (fun c2 => ?_) (fun c2 => ?_)
    · have hf := pf_t c2 hf
      refine x_inc (c := (1 : Int32)) (L' := [(0, .ref x0), (1, .ref x1), (3, .int (x3 + (1 : Int32)))]) C dX4_goOn_284 2 rfl (by decide) (Nat.le_of_ble_eq_true rfl) [1, 2, 0] rfl ?_
      refine x_goto (tgt := 237) C dX4_goOn_287 (by decide) ?_
      exact hk237 x0 x1 (x3 + (1 : Int32)) _ hf
    · have hf := pf_f c2 hf
      refine x_aload_n C dX4_goOn_257 0 rfl ?_
      refine x_iconst (5 : Int32) C dX4_goOn_258 (by decide) ?_
      refine x_iload_n C dX4_goOn_259 2 rfl ?_
      refine x_imul C dX4_goOn_260 ?_
      refine x_iload C dX4_goOn_261 3 rfl ?_
      refine x_iadd C dX4_goOn_263 ?_
      refine x_aload_n C dX4_goOn_264 0 rfl ?_
      obtain ⟨t3, hf⟩ := pf_ch hf
      obtain ⟨p4, ep4, hf⟩ := pf_b hf
      refine cg4_3 C B t3 (flo C q456) fsm ep4 dX4_goOn_265 ?_
      refine x_iload_n C dX4_goOn_268 2 rfl ?_
      obtain ⟨t5, hf⟩ := pf_ch hf
      obtain ⟨h6, hf⟩ := pf_in hf
      refine ca_ild C B t5 h6 dX4_goOn_269 ?_
      refine x_iload C dX4_goOn_270 3 rfl ?_
      refine k_X1_has_X4 C B dK (Nat.le_of_ble_eq_true rfl) cz rfl (Nat.le_of_ble_eq_true rfl) dX4_goOn_272 ?_
      obtain ⟨r7, er7, hf⟩ := pf_b hf
      refine k_X4_tires_X4 C B t3 dK (Nat.le_of_ble_eq_true rfl) cz er7 (Nat.le_of_ble_eq_true rfl) dX4_goOn_275 ?_
      refine x_inc (c := (1 : Int32)) (L' := [(0, .ref x0), (1, .ref x1), (3, .int x3), (4, .int (x4 + (1 : Int32)))]) C dX4_goOn_278 3 rfl (by decide) (Nat.le_of_ble_eq_true rfl) [1, 2, 3, 0] rfl ?_
      refine x_goto (tgt := 248) C dX4_goOn_281 (by decide) ?_
      exact ih x0 x1 x3 (x4 + (1 : Int32)) _ hf
def f_X4_goOn_L237 (n : Nat) (g : CG) : Nat → Nat → Nat → Int32 → CD → Option CD
  | 0, _, _, _, _ => none
  | m + 1, x0, x1, x3, d => if ht g x1 = 3 then if (hi d x1 21) ≤ x3 then (if ht g x0 = 4 then ev (wi d x0 4 ((hi d x0 4) + (1 : Int32))) fun s4 => some s4 else none) else (f_X4_goOn_L248 n g (f_X4_goOn_L237 n g m) n x0 x1 x3 (0 : Int32) d) else none
set_option maxHeartbeats 4000000 in
theorem w_X4_goOn_237 {K : KT} {T : CT} {τ : CD} (n : Nat) (g : CG) (C : Kok K cX4_goOn 9 RX4) (B : CB K T) (hr : (kMe K).sig.returnType = none) (dK : kR K = rmC 4 0 0) (hQ : KQc K T none 0 0 g τ) : ∀ (m : Nat) (x0 : Nat) (x1 : Nat) (x3 : Int32) (d : CD) (hf : f_X4_goOn_L237 n g m x0 x1 x3 d = some τ), XJ K 9 (Wc K T 0 0 g d) 237 [(0, .ref x0), (1, .ref x1), (3, .int x3)] [] := by
  intro m
  induction m with
  | zero => intro x0 x1 x3 d hf; cases hf
  | succ m ih =>
    intro x0 x1 x3 d hf
    rw [f_X4_goOn_L237] at hf
    refine x_iload_n C dX4_goOn_237 2 rfl ?_
    refine x_aload_n C dX4_goOn_238 1 rfl ?_
    obtain ⟨t1, hf⟩ := pf_ch hf
    refine cg3_21 C B t1 (fln B q340) fsm dX4_goOn_239 ?_
    refine x_icmp_ge (tgt := 290) C dX4_goOn_242 (by decide) (fun c2 => ?_) (fun c2 => ?_)
    · have hf := pf_t c2 hf
      refine x_aload_n C dX4_goOn_290 0 rfl ?_
      refine x_dup C dX4_goOn_291 rfl ?_
      obtain ⟨t3, hf⟩ := pf_ch hf
      refine cg4_4 C B t3 (flo C q458) fsm dX4_goOn_292 ?_
      refine x_iconst (1 : Int32) C dX4_goOn_295 (by decide) ?_
      refine x_iadd C dX4_goOn_296 ?_
      refine cp4_4 C B t3 (flo C q458) fsm dX4_goOn_297 ?_
      obtain ⟨s4, es4, hf⟩ := pf_e hf
      refine c_ren es4 ?_
      obtain rfl := Option.some.inj hf
      exact c_vret C hr hQ dX4_goOn_300
    · have hf := pf_f c2 hf
      refine x_iconst (0 : Int32) C dX4_goOn_245 (by decide) ?_
      refine x_istore (L' := [(0, .ref x0), (1, .ref x1), (3, .int x3), (4, .int (0 : Int32))]) C dX4_goOn_246 (Nat.le_of_ble_eq_true rfl) [1, 2, 3, 0] rfl ?_
      exact w_X4_goOn_248 n g _ C B hr dK hQ ih n x0 x1 x3 (0 : Int32) _ hf
def f_X4_goOn_L164 (n : Nat) (g : CG) : Nat → Nat → Nat → Int32 → Int32 → CD → Option CD
  | 0, _, _, _, _, _ => none
  | m + 1, x0, x1, x2, x3, d => if ht g x1 = 3 then if (hi d x1 20) ≤ x3 then (f_X4_goOn_L237 n g n x0 x1 (0 : Int32) d) else (if ht g x0 = 4 then (hr g x0 0).bind fun p4 => if ht g p4 = 105 then if inb x3 (hn g p4) = true then (hr g p4 (Int32.toNatClampNeg x3)).bind fun p7 => if ht g p7 = 5 then (f_X5_isGone g d p7).bind fun r9 => if r9 = 0 then ((hr g x1 4).bind fun p11 => if ht g p11 = 100 then if inb (hi d p7 1) (hn g p11) = true then (f_X5_pay g p7 (hi d p11 (Int32.toNatClampNeg (hi d p7 1))) d).bind fun r14 => ev (wi r14.2 x0 5 ((hi d x0 5) + r14.1)) fun s15 => if (f_X1_has x2 x3) = 0 then (ev (wi s15 p7 5 (1 : Int32)) fun s17 => f_X4_goOn_L164 n g m x0 x1 x2 (x3 + (1 : Int32)) s17) else (f_X4_goOn_L164 n g m x0 x1 x2 (x3 + (1 : Int32)) s15) else none else none) else (f_X4_goOn_L164 n g m x0 x1 x2 (x3 + (1 : Int32)) d) else none else none else none else none) else none
set_option maxHeartbeats 4000000 in
theorem w_X4_goOn_164 {K : KT} {T : CT} {τ : CD} (n : Nat) (g : CG) (C : Kok K cX4_goOn 9 RX4) (B : CB K T) (hr : (kMe K).sig.returnType = none) (dK : kR K = rmC 4 0 0) (hQ : KQc K T none 0 0 g τ) : ∀ (m : Nat) (x0 : Nat) (x1 : Nat) (x2 : Int32) (x3 : Int32) (d : CD) (hf : f_X4_goOn_L164 n g m x0 x1 x2 x3 d = some τ), XJ K 9 (Wc K T 0 0 g d) 164 [(0, .ref x0), (1, .ref x1), (2, .int x2), (3, .int x3)] [] := by
  intro m
  induction m with
  | zero => intro x0 x1 x2 x3 d hf; cases hf
  | succ m ih =>
    intro x0 x1 x2 x3 d hf
    rw [f_X4_goOn_L164] at hf
    refine x_iload_n C dX4_goOn_164 3 rfl ?_
    refine x_aload_n C dX4_goOn_165 1 rfl ?_
    obtain ⟨t1, hf⟩ := pf_ch hf
    refine cg3_20 C B t1 (fln B q334) fsm dX4_goOn_166 ?_
    refine x_icmp_ge (tgt := 235) C dX4_goOn_169 (by decide) (fun c2 => ?_) (fun c2 => ?_)
    · have hf := pf_t c2 hf
      refine x_iconst (0 : Int32) C dX4_goOn_235 (by decide) ?_
      refine x_istore_n (L' := [(0, .ref x0), (1, .ref x1), (3, .int (0 : Int32))]) C dX4_goOn_236 (Nat.le_of_ble_eq_true rfl) [1, 2, 0] rfl ?_
      exact w_X4_goOn_237 n g C B hr dK hQ n x0 x1 (0 : Int32) _ hf
    · have hf := pf_f c2 hf
      refine x_aload_n C dX4_goOn_172 0 rfl ?_
      obtain ⟨t3, hf⟩ := pf_ch hf
      obtain ⟨p4, ep4, hf⟩ := pf_b hf
      refine cg4_0 C B t3 (flo C q447) fsm ep4 dX4_goOn_173 ?_
      refine x_iload_n C dX4_goOn_176 3 rfl ?_
      obtain ⟨t5, hf⟩ := pf_ch hf
      obtain ⟨h6, hf⟩ := pf_in hf
      obtain ⟨p7, ep7, hf⟩ := pf_b hf
      refine ca_ald5 C B t5 h6 ep7 dX4_goOn_177 ?_
      refine x_astore (L' := [(0, .ref x0), (1, .ref x1), (2, .int x2), (3, .int x3), (4, .ref p7)]) C dX4_goOn_178 (Nat.le_of_ble_eq_true rfl) [1, 2, 3, 4, 0] rfl ?_
      refine x_aload C dX4_goOn_180 4 rfl ?_
      obtain ⟨t8, hf⟩ := pf_ch hf
      obtain ⟨r9, er9, hf⟩ := pf_b hf
      refine k_X5_isGone_X4 C B t8 dK (Nat.le_of_ble_eq_true rfl) cz er9 (Nat.le_of_ble_eq_true rfl) dX4_goOn_182 ?_
      refine x_if_eq (tgt := 191) C dX4_goOn_185 (by decide) (fun c10 => ?_) (fun c10 => ?_)
      · have hf := pf_t c10 hf
        refine x_aload_n C dX4_goOn_191 0 rfl ?_
        refine x_dup C dX4_goOn_192 rfl ?_
        refine cg4_5 C B t3 (flo C q460) fsm dX4_goOn_193 ?_
        refine x_aload C dX4_goOn_196 4 rfl ?_
        refine x_aload_n C dX4_goOn_198 1 rfl ?_
        obtain ⟨p11, ep11, hf⟩ := pf_b hf
        refine cg3_4 C B t1 (fln B q284) fsm ep11 dX4_goOn_199 ?_
        refine x_aload C dX4_goOn_202 4 rfl ?_
        refine cg5_1 C B t8 (fln B q416) fsm dX4_goOn_204 ?_
        obtain ⟨t12, hf⟩ := pf_ch hf
        obtain ⟨h13, hf⟩ := pf_in hf
        refine ca_ild C B t12 h13 dX4_goOn_207 ?_
        obtain ⟨r14, er14, hf⟩ := pf_b hf
        refine k_X5_pay_X4 C B t8 dK (Nat.le_of_ble_eq_true rfl) cz er14 (Nat.le_of_ble_eq_true rfl) dX4_goOn_208 ?_
        refine x_iadd C dX4_goOn_211 ?_
        refine cp4_5 C B t3 (flo C q460) fsm dX4_goOn_212 ?_
        obtain ⟨s15, es15, hf⟩ := pf_e hf
        refine c_ren es15 ?_
        refine x_iload_n C dX4_goOn_215 2 rfl ?_
        refine x_iload_n C dX4_goOn_216 3 rfl ?_
        refine k_X1_has_X4 C B dK (Nat.le_of_ble_eq_true rfl) cz rfl (Nat.le_of_ble_eq_true rfl) dX4_goOn_217 ?_
        refine x_if_ne (tgt := 229) C dX4_goOn_220 (by decide) (fun c16 => ?_) (fun c16 => ?_)
        · have hf := pf_f c16 hf
          refine x_inc (c := (1 : Int32)) (L' := [(0, .ref x0), (1, .ref x1), (2, .int x2), (3, .int (x3 + (1 : Int32)))]) C dX4_goOn_229 3 rfl (by decide) (Nat.le_of_ble_eq_true rfl) [1, 2, 3, 0] rfl ?_
          refine x_goto (tgt := 164) C dX4_goOn_232 (by decide) ?_
          exact ih x0 x1 x2 (x3 + (1 : Int32)) _ hf
        · have hf := pf_t c16 hf
          refine x_aload C dX4_goOn_223 4 rfl ?_
          refine x_iconst (1 : Int32) C dX4_goOn_225 (by decide) ?_
          refine cp5_5 C B t8 (fln B q432) fsm (Or.inr rfl) dX4_goOn_226 ?_
          obtain ⟨s17, es17, hf⟩ := pf_e hf
          refine c_ren es17 ?_
          refine x_inc (c := (1 : Int32)) (L' := [(0, .ref x0), (1, .ref x1), (2, .int x2), (3, .int (x3 + (1 : Int32)))]) C dX4_goOn_229 3 rfl (by decide) (Nat.le_of_ble_eq_true rfl) [1, 2, 3, 0] rfl ?_
          refine x_goto (tgt := 164) C dX4_goOn_232 (by decide) ?_
          exact ih x0 x1 x2 (x3 + (1 : Int32)) _ hf
      · have hf := pf_f c10 hf
        refine x_goto (tgt := 229) C dX4_goOn_188 (by decide) ?_
        refine x_inc (c := (1 : Int32)) (L' := [(0, .ref x0), (1, .ref x1), (2, .int x2), (3, .int (x3 + (1 : Int32)))]) C dX4_goOn_229 3 rfl (by decide) (Nat.le_of_ble_eq_true rfl) [1, 2, 3, 0] rfl ?_
        refine x_goto (tgt := 164) C dX4_goOn_232 (by decide) ?_
        exact ih x0 x1 x2 (x3 + (1 : Int32)) _ hf
def f_X4_goOn_L4 (n : Nat) (g : CG) : Nat → Nat → Nat → Int32 → Int32 → CD → Option CD
  | 0, _, _, _, _, _ => none
  | m + 1, x0, x1, x2, x3, d => if ht g x1 = 3 then if (hi d x1 21) ≤ x3 then (f_X4_goOn_L164 n g n x0 x1 x2 (0 : Int32) d) else (if ht g x0 = 4 then (hr g x0 3).bind fun p4 => if ht g p4 = 100 then if inb x3 (hn g p4) = true then ev (wi d p4 (Int32.toNatClampNeg x3) (0 : Int32)) fun s7 => (hr g x1 12).bind fun p8 => if ht g p8 = 100 then if inb x3 (hn g p8) = true then if ¬ (hi s7 p8 (Int32.toNatClampNeg x3)) = 0 then if ((hi s7 x0 4) - (hi s7 x0 4) / (hi s7 p8 (Int32.toNatClampNeg x3)) * (hi s7 p8 (Int32.toNatClampNeg x3))) = 0 then ((hr g x1 15).bind fun p13 => if ht g p13 = 108 then if inb x3 (hn g p13) = true then (hr g p13 (Int32.toNatClampNeg x3)).bind fun p16 => if ht g p16 = 100 then ev (Int32.ofNat (hn g p16)) fun v18 => f_X4_goOn_L52 n g (f_X4_goOn_L4 n g m) n x0 x1 x2 x3 p16 v18 (0 : Int32) s7 else none else none else none) else (f_X4_goOn_L4 n g m x0 x1 x2 (x3 + (1 : Int32)) s7) else none else none else none else none else none else none) else none
set_option maxHeartbeats 4000000 in
theorem w_X4_goOn_4 {K : KT} {T : CT} {τ : CD} (n : Nat) (g : CG) (C : Kok K cX4_goOn 9 RX4) (B : CB K T) (hr : (kMe K).sig.returnType = none) (dK : kR K = rmC 4 0 0) (hQ : KQc K T none 0 0 g τ) : ∀ (m : Nat) (x0 : Nat) (x1 : Nat) (x2 : Int32) (x3 : Int32) (d : CD) (hf : f_X4_goOn_L4 n g m x0 x1 x2 x3 d = some τ), XJ K 9 (Wc K T 0 0 g d) 4 [(0, .ref x0), (1, .ref x1), (2, .int x2), (3, .int x3)] [] := by
  intro m
  induction m with
  | zero => intro x0 x1 x2 x3 d hf; cases hf
  | succ m ih =>
    intro x0 x1 x2 x3 d hf
    rw [f_X4_goOn_L4] at hf
    refine x_iload_n C dX4_goOn_4 3 rfl ?_
    refine x_aload_n C dX4_goOn_5 1 rfl ?_
    obtain ⟨t1, hf⟩ := pf_ch hf
    refine cg3_21 C B t1 (fln B q340) fsm dX4_goOn_6 ?_
    refine x_icmp_ge (tgt := 162) C dX4_goOn_9 (by decide) (fun c2 => ?_) (fun c2 => ?_)
    · have hf := pf_t c2 hf
      refine x_iconst (0 : Int32) C dX4_goOn_162 (by decide) ?_
      refine x_istore_n (L' := [(0, .ref x0), (1, .ref x1), (2, .int x2), (3, .int (0 : Int32))]) C dX4_goOn_163 (Nat.le_of_ble_eq_true rfl) [1, 2, 3, 0] rfl ?_
      exact w_X4_goOn_164 n g C B hr dK hQ n x0 x1 x2 (0 : Int32) _ hf
    · have hf := pf_f c2 hf
      refine x_aload_n C dX4_goOn_12 0 rfl ?_
      obtain ⟨t3, hf⟩ := pf_ch hf
      obtain ⟨p4, ep4, hf⟩ := pf_b hf
      refine cg4_3 C B t3 (flo C q456) fsm ep4 dX4_goOn_13 ?_
      refine x_iload_n C dX4_goOn_16 3 rfl ?_
      refine x_iconst (0 : Int32) C dX4_goOn_17 (by decide) ?_
      obtain ⟨t5, hf⟩ := pf_ch hf
      obtain ⟨h6, hf⟩ := pf_in hf
      refine ca_ist C B t5 h6 dX4_goOn_18 ?_
      obtain ⟨s7, es7, hf⟩ := pf_e hf
      refine c_ren es7 ?_
      refine x_aload_n C dX4_goOn_19 0 rfl ?_
      refine cg4_4 C B t3 (flo C q458) fsm dX4_goOn_20 ?_
      refine x_aload_n C dX4_goOn_23 1 rfl ?_
      obtain ⟨p8, ep8, hf⟩ := pf_b hf
      refine cg3_12 C B t1 (fln B q309) fsm ep8 dX4_goOn_24 ?_
      refine x_iload_n C dX4_goOn_27 3 rfl ?_
      obtain ⟨t9, hf⟩ := pf_ch hf
      obtain ⟨h10, hf⟩ := pf_in hf
      refine ca_ild C B t9 h10 dX4_goOn_28 ?_
      obtain ⟨h11, hf⟩ := pf_ch hf
      refine x_irem C h11 dX4_goOn_29 ?_
      refine x_if_eq (tgt := 36) C dX4_goOn_30 (by decide) (fun c12 => ?_) (fun c12 => ?_)
      · have hf := pf_t c12 hf
        refine x_aload_n C dX4_goOn_36 1 rfl ?_
        obtain ⟨p13, ep13, hf⟩ := pf_b hf
        refine cg3_15 C B t1 (fln B q318) fsm ep13 dX4_goOn_37 ?_
        refine x_iload_n C dX4_goOn_40 3 rfl ?_
        obtain ⟨t14, hf⟩ := pf_ch hf
        obtain ⟨h15, hf⟩ := pf_in hf
        obtain ⟨p16, ep16, hf⟩ := pf_b hf
        refine ca_ald8 C B t14 h15 ep16 dX4_goOn_41 ?_
        refine x_astore (L' := [(0, .ref x0), (1, .ref x1), (2, .int x2), (3, .int x3), (4, .ref p16)]) C dX4_goOn_42 (Nat.le_of_ble_eq_true rfl) [1, 2, 3, 4, 0] rfl ?_
        refine x_aload C dX4_goOn_44 4 rfl ?_
        obtain ⟨t17, hf⟩ := pf_ch hf
        refine ca_len C B t17 (Or.inl rfl) rfl dX4_goOn_46 ?_
        obtain ⟨v18, ev18, hf⟩ := pf_e hf
        refine x_topir ev18 ?_
        refine x_istore (L' := [(0, .ref x0), (1, .ref x1), (2, .int x2), (3, .int x3), (4, .ref p16), (5, .int v18)]) C dX4_goOn_47 (Nat.le_of_ble_eq_true rfl) [1, 2, 3, 4, 5, 0] rfl ?_
        refine x_iconst (0 : Int32) C dX4_goOn_49 (by decide) ?_
        refine x_istore (L' := [(0, .ref x0), (1, .ref x1), (2, .int x2), (3, .int x3), (4, .ref p16), (5, .int v18), (6, .int (0 : Int32))]) C dX4_goOn_50 (Nat.le_of_ble_eq_true rfl) [1, 2, 3, 4, 5, 6, 0] rfl ?_
        exact w_X4_goOn_52 n g _ C B hr dK hQ ih n x0 x1 x2 x3 p16 v18 (0 : Int32) _ hf
      · have hf := pf_f c12 hf
        refine x_goto (tgt := 156) C dX4_goOn_33 (by decide) ?_
        refine x_inc (c := (1 : Int32)) (L' := [(0, .ref x0), (1, .ref x1), (2, .int x2), (3, .int (x3 + (1 : Int32)))]) C dX4_goOn_156 3 rfl (by decide) (Nat.le_of_ble_eq_true rfl) [1, 2, 3, 0] rfl ?_
        refine x_goto (tgt := 4) C dX4_goOn_159 (by decide) ?_
        exact ih x0 x1 x2 (x3 + (1 : Int32)) _ hf
def f_X4_goOn (n : Nat) (g : CG) (x0 : Nat) (x1 : Nat) (d : CD) : Option CD := f_X4_goOn_L4 n g n x0 x1 (0 : Int32) (0 : Int32) d
set_option maxHeartbeats 4000000 in
theorem w_X4_goOn_E {K : KT} {T : CT} {τ : CD} (n : Nat) (g : CG) (C : Kok K cX4_goOn 9 RX4) (B : CB K T) (hr : (kMe K).sig.returnType = none) (dK : kR K = rmC 4 0 0) (hQ : KQc K T none 0 0 g τ) (x0 : Nat) (x1 : Nat) (d : CD) (hf : f_X4_goOn n g x0 x1 d = some τ) : XJ K 9 (Wc K T 0 0 g d) 0 [(0, .ref x0), (1, .ref x1)] [] := by
  unfold f_X4_goOn at hf
  refine x_iconst (0 : Int32) C dX4_goOn_0 (by decide) ?_
  refine x_istore_n (L' := [(0, .ref x0), (1, .ref x1), (2, .int (0 : Int32))]) C dX4_goOn_1 (Nat.le_of_ble_eq_true rfl) [1, 2, 0] rfl ?_
  refine x_iconst (0 : Int32) C dX4_goOn_2 (by decide) ?_
  refine x_istore_n (L' := [(0, .ref x0), (1, .ref x1), (2, .int (0 : Int32)), (3, .int (0 : Int32))]) C dX4_goOn_3 (Nat.le_of_ble_eq_true rfl) [1, 2, 3, 0] rfl ?_
  exact w_X4_goOn_4 n g C B hr dK hQ n x0 x1 (0 : Int32) (0 : Int32) _ hf
theorem met_X4_goOn {T : CT} {v : CD} {n : Nat} {g : CG} {d : CD} {x0 : Nat} {x1 : Nat} {l : Launch} (hf : f_X4_goOn n g x0 x1 d = some v) : Met l yX4_goOn (ws_ yX4_goOn cX4_goOn 9 none) (rmC 4 0 0) (va_Pc [.ref x0, .ref x1] (CU T g d)) (Qc T none g v) 0 0 (cA T) :=
  c_met [.ref x0, .ref x1] RX4 (by decide) rfl (Nat.le_of_ble_eq_true rfl) (fun K hl hR hr C B hQ => w_X4_goOn_E _ _ C B hr hR hQ _ _ _ hf)
theorem k_X4_dawn_X4 {K : KT} {T : CT} {c0 s0 c1 s1 dk : Nat} {cc : ByteArray} {nL pc : Nat} {L : List (Nat × Value)} {rest : List Value} {g : CG} {d : CD} {v : (Int32 × CD)} {n : Nat} {x0 : Nat} {x1 : Nat} {x2 : Int32} (C : Kok K cc nL RX4) (B : CB K T) (hta : ht g x0 = 4) (dK : kR K = rmC dk c1 s1) (hd : 3 + 1 ≤ dk) (hcs : c0 + 0 ≤ c1 ∧ s0 + 0 ≤ s1) (hf : f_X4_dawn n g x0 x1 x2 d = some v) (hW : (rest.map fun v => v.category).sum ≤ 8) (dd : decode cc pc = .ok (.invokevirtual 150, 3)) (kk2 : XJ K nL (Wc K T c0 s0 g v.2) (pc + 3) L ((.int v.1) :: rest)) : XJ K nL (Wc K T c0 s0 g d) pc L (.int x2 :: .ref x1 :: .ref x0 :: rest) :=
  c_callV (rest := rest) (v := (some (.int v.1))) [.ref x1, .int x2] 2 rfl C B hta (by decide) (by decide) rfl dK hd (Nat.le_of_ble_eq_true rfl) hcs (lw_V q1100 q1101 q1102 q126 q1103) (by decide +kernel) (met_X4_dawn hf) rfl hW dd kk2
theorem k_X4_goOn_X4 {K : KT} {T : CT} {c0 s0 c1 s1 dk : Nat} {cc : ByteArray} {nL pc : Nat} {L : List (Nat × Value)} {rest : List Value} {g : CG} {d : CD} {v : CD} {n : Nat} {x0 : Nat} {x1 : Nat} (C : Kok K cc nL RX4) (B : CB K T) (hta : ht g x0 = 4) (dK : kR K = rmC dk c1 s1) (hd : 4 + 1 ≤ dk) (hcs : c0 + 0 ≤ c1 ∧ s0 + 0 ≤ s1) (hf : f_X4_goOn n g x0 x1 d = some v) (hW : (rest.map fun v => v.category).sum ≤ 8) (dd : decode cc pc = .ok (.invokevirtual 153, 3)) (kk2 : XJ K nL (Wc K T c0 s0 g v) (pc + 3) L (rest)) : XJ K nL (Wc K T c0 s0 g d) pc L (.ref x1 :: .ref x0 :: rest) :=
  c_callV (rest := rest) (v := none) [.ref x1] 1 rfl C B hta (by decide) (by decide) rfl dK hd (Nat.le_of_ble_eq_true rfl) hcs (lw_V q1104 q1105 q1106 q126 q1107) (by decide +kernel) (met_X4_goOn hf) rfl hW dd kk2
def f_X4_days_L8 (n : Nat) (g : CG) : Nat → Nat → Nat → Int32 → Int32 → CD → Option (Int32 × CD)
  | 0, _, _, _, _, _ => none
  | m + 1, x0, x1, x2, x4, d => if x2 ≤ x4 then (some (x4, d)) else (if ht g x0 = 4 then if (400 : Int32) ≤ (hi d x0 4) then (some (x4, d)) else (if ht g x1 = 3 then (f_X4_dawn n g x0 x1 (hi d x1 22) d).bind fun r5 => (f_X4_goOn n g x0 x1 r5.2).bind fun r6 => f_X4_days_L8 n g m x0 x1 x2 (x4 + (1 : Int32)) r6 else none) else none)
set_option maxHeartbeats 4000000 in
theorem w_X4_days_8 {K : KT} {T : CT} {r : Int32} {τ : CD} (n : Nat) (g : CG) (C : Kok K cX4_days 5 RX4) (B : CB K T) (hr : (kMe K).sig.returnType = (some .int)) (dK : kR K = rmC 5 0 0) (hQ : KQc K T (some (.int r)) 0 0 g τ) : ∀ (m : Nat) (x0 : Nat) (x1 : Nat) (x2 : Int32) (x4 : Int32) (d : CD) (hf : f_X4_days_L8 n g m x0 x1 x2 x4 d = some (r, τ)), XJ K 5 (Wc K T 0 0 g d) 8 [(0, .ref x0), (1, .ref x1), (2, .int x2), (4, .int x4)] [] := by
  intro m
  induction m with
  | zero => intro x0 x1 x2 x4 d hf; cases hf
  | succ m ih =>
    intro x0 x1 x2 x4 d hf
    rw [f_X4_days_L8] at hf
    refine x_iload C dX4_days_8 3 rfl ?_
    refine x_iload_n C dX4_days_10 2 rfl ?_
    refine x_icmp_ge (tgt := 45) C dX4_days_11 (by decide) (fun c1 => ?_) (fun c1 => ?_)
    · have hf := pf_t c1 hf
      refine x_iload C dX4_days_45 3 rfl ?_
      obtain ⟨rfl, rfl⟩ := Prod.mk.inj (Option.some.inj hf)
      exact c_iret C hr hQ dX4_days_47
    · have hf := pf_f c1 hf
      refine x_aload_n C dX4_days_14 0 rfl ?_
      obtain ⟨t2, hf⟩ := pf_ch hf
      refine cg4_4 C B t2 (flo C q458) fsm dX4_days_15 ?_
      refine x_sipush (400 : Int32) C dX4_days_18 (by decide) ?_
      refine x_icmp_ge (tgt := 45) C dX4_days_21 (by decide) (fun c3 => ?_) (fun c3 => ?_)
      · have hf := pf_t c3 hf
        refine x_iload C dX4_days_45 3 rfl ?_
        obtain ⟨rfl, rfl⟩ := Prod.mk.inj (Option.some.inj hf)
        exact c_iret C hr hQ dX4_days_47
      · have hf := pf_f c3 hf
        refine x_aload_n C dX4_days_24 0 rfl ?_
        refine x_aload_n C dX4_days_25 1 rfl ?_
        refine x_aload_n C dX4_days_26 1 rfl ?_
        obtain ⟨t4, hf⟩ := pf_ch hf
        refine cg3_22 C B t4 (fln B q344) fsm dX4_days_27 ?_
        obtain ⟨r5, er5, hf⟩ := pf_b hf
        refine k_X4_dawn_X4 C B t2 dK (Nat.le_of_ble_eq_true rfl) cz er5 (Nat.le_of_ble_eq_true rfl) dX4_days_30 ?_
        refine x_pop C dX4_days_33 rfl ?_
        refine x_aload_n C dX4_days_34 0 rfl ?_
        refine x_aload_n C dX4_days_35 1 rfl ?_
        obtain ⟨r6, er6, hf⟩ := pf_b hf
        refine k_X4_goOn_X4 C B t2 dK (Nat.le_of_ble_eq_true rfl) cz er6 (Nat.le_of_ble_eq_true rfl) dX4_days_36 ?_
        refine x_inc (c := (1 : Int32)) (L' := [(0, .ref x0), (1, .ref x1), (2, .int x2), (4, .int (x4 + (1 : Int32)))]) C dX4_days_39 3 rfl (by decide) (Nat.le_of_ble_eq_true rfl) [1, 2, 3, 0] rfl ?_
        refine x_goto (tgt := 8) C dX4_days_42 (by decide) ?_
        exact ih x0 x1 x2 (x4 + (1 : Int32)) _ hf
def f_X4_days (n : Nat) (g : CG) (x0 : Nat) (x1 : Nat) (x2 : Int32) (x3 : Int32) (d : CD) : Option (Int32 × CD) := if ht g x0 = 4 then ev (wi d x0 6 x3) fun s2 => f_X4_days_L8 n g n x0 x1 x2 (0 : Int32) s2 else none
set_option maxHeartbeats 4000000 in
theorem w_X4_days_E {K : KT} {T : CT} {r : Int32} {τ : CD} (n : Nat) (g : CG) (C : Kok K cX4_days 5 RX4) (B : CB K T) (hr : (kMe K).sig.returnType = (some .int)) (dK : kR K = rmC 5 0 0) (hQ : KQc K T (some (.int r)) 0 0 g τ) (x0 : Nat) (x1 : Nat) (x2 : Int32) (x3 : Int32) (d : CD) (hf : f_X4_days n g x0 x1 x2 x3 d = some (r, τ)) : XJ K 5 (Wc K T 0 0 g d) 0 [(0, .ref x0), (1, .ref x1), (2, .int x2), (3, .int x3)] [] := by
  unfold f_X4_days at hf
  refine x_aload_n C dX4_days_0 0 rfl ?_
  refine x_iload_n C dX4_days_1 3 rfl ?_
  obtain ⟨t1, hf⟩ := pf_ch hf
  refine cp4_6 C B t1 (flo C q462) fsm dX4_days_2 ?_
  obtain ⟨s2, es2, hf⟩ := pf_e hf
  refine c_ren es2 ?_
  refine x_iconst (0 : Int32) C dX4_days_5 (by decide) ?_
  refine x_istore (L' := [(0, .ref x0), (1, .ref x1), (2, .int x2), (4, .int (0 : Int32))]) C dX4_days_6 (Nat.le_of_ble_eq_true rfl) [1, 2, 3, 0] rfl ?_
  exact w_X4_days_8 n g C B hr dK hQ n x0 x1 x2 (0 : Int32) _ hf
theorem met_X4_days {T : CT} {v : (Int32 × CD)} {n : Nat} {g : CG} {d : CD} {x0 : Nat} {x1 : Nat} {x2 : Int32} {x3 : Int32} {l : Launch} (hf : f_X4_days n g x0 x1 x2 x3 d = some v) : Met l yX4_days (ws_ yX4_days cX4_days 5 (some .int)) (rmC 5 0 0) (va_Pc [.ref x0, .ref x1, .int x2, .int x3] (CU T g d)) (Qc T (some (.int v.1)) g v.2) 0 0 (cA T) :=
  c_met [.ref x0, .ref x1, .int x2, .int x3] RX4 (by decide) rfl (Nat.le_of_ble_eq_true rfl) (fun K hl hR hr C B hQ => w_X4_days_E _ _ C B hr hR hQ _ _ _ _ _ hf)
theorem k_X4_days_X12 {K : KT} {T : CT} {c0 s0 c1 s1 dk : Nat} {cc : ByteArray} {nL pc : Nat} {L : List (Nat × Value)} {rest : List Value} {g : CG} {d : CD} {v : (Int32 × CD)} {n : Nat} {x0 : Nat} {x1 : Nat} {x2 : Int32} {x3 : Int32} (C : Kok K cc nL RX12) (B : CB K T) (hta : ht g x0 = 4) (dK : kR K = rmC dk c1 s1) (hd : 5 + 1 ≤ dk) (hcs : c0 + 0 ≤ c1 ∧ s0 + 0 ≤ s1) (hf : f_X4_days n g x0 x1 x2 x3 d = some v) (hW : (rest.map fun v => v.category).sum ≤ 8) (dd : decode cc pc = .ok (.invokevirtual 20, 3)) (kk2 : XJ K nL (Wc K T c0 s0 g v.2) (pc + 3) L ((.int v.1) :: rest)) : XJ K nL (Wc K T c0 s0 g d) pc L (.int x3 :: .int x2 :: .ref x1 :: .ref x0 :: rest) :=
  c_callV (rest := rest) (v := (some (.int v.1))) [.ref x1, .int x2, .int x3] 3 rfl C B hta (by decide) (by decide) rfl dK hd (Nat.le_of_ble_eq_true rfl) hcs (lw_V q1499 q1097 q1098 q126 q1099) (by decide +kernel) (met_X4_days hf) rfl hW dd kk2
def f_X12_live (n : Nat) (g : CG) (x0 : Nat) (x1 : Nat) (x2 : Nat) (d : CD) : Option CD := if ht g x0 = 9 then if ht g x2 = 4 then (f_X4_days n g x2 x1 (hi d x0 0) (hi d x0 0) d).bind fun r3 => some r3.2 else none else none
set_option maxHeartbeats 4000000 in
theorem w_X12_live_E {K : KT} {T : CT} {τ : CD} (n : Nat) (g : CG) (C : Kok K cX12_live 3 RX12) (B : CB K T) (hr : (kMe K).sig.returnType = none) (dK : kR K = rmC 6 0 0) (hQ : KQc K T none 0 0 g τ) (x0 : Nat) (x1 : Nat) (x2 : Nat) (d : CD) (hf : f_X12_live n g x0 x1 x2 d = some τ) : XJ K 3 (Wc K T 0 0 g d) 0 [(0, .ref x0), (1, .ref x1), (2, .ref x2)] [] := by
  unfold f_X12_live at hf
  refine x_aload_n C dX12_live_0 2 rfl ?_
  refine x_aload_n C dX12_live_1 1 rfl ?_
  refine x_aload_n C dX12_live_2 0 rfl ?_
  obtain ⟨t1, hf⟩ := pf_ch hf
  refine cg9_0 C B t1 (flo C q1398) fsm dX12_live_3 ?_
  refine x_aload_n C dX12_live_6 0 rfl ?_
  refine cg9_0 C B t1 (flo C q1398) fsm dX12_live_7 ?_
  obtain ⟨t2, hf⟩ := pf_ch hf
  obtain ⟨r3, er3, hf⟩ := pf_b hf
  refine k_X4_days_X12 C B t2 dK (Nat.le_of_ble_eq_true rfl) cz er3 (Nat.le_of_ble_eq_true rfl) dX12_live_10 ?_
  refine x_pop C dX12_live_13 rfl ?_
  obtain rfl := Option.some.inj hf
  exact c_vret C hr hQ dX12_live_14
theorem met_X12_live {T : CT} {v : CD} {n : Nat} {g : CG} {d : CD} {x0 : Nat} {x1 : Nat} {x2 : Nat} {l : Launch} (hf : f_X12_live n g x0 x1 x2 d = some v) : Met l yX12_live (ws_ yX12_live cX12_live 3 none) (rmC 6 0 0) (va_Pc [.ref x0, .ref x1, .ref x2] (CU T g d)) (Qc T none g v) 0 0 (cA T) :=
  c_met [.ref x0, .ref x1, .ref x2] RX12 (by decide) rfl (Nat.le_of_ble_eq_true rfl) (fun K hl hR hr C B hQ => w_X12_live_E _ _ C B hr hR hQ _ _ _ _ hf)
def f_X12_why (g : CG) (d : CD) (x0 : Nat) (x1 : Nat) (x2 : Nat) : Option Int32 := if ht g x2 = 4 then if ht g x0 = 9 then if ((hi d x2 4) + (hi d x0 0)) ≤ (400 : Int32) then (some (0 : Int32)) else (some (41 : Int32)) else none else none
set_option maxHeartbeats 4000000 in
theorem w_X12_why_E {K : KT} {T : CT} {r : Int32} (g : CG) (d : CD) (C : Kok K cX12_why 3 RX12) (B : CB K T) (hr : (kMe K).sig.returnType = (some .int)) (dK : kR K = rmC 2 0 0) (hQ : KQc K T (some (.int r)) 0 0 g d) (x0 : Nat) (x1 : Nat) (x2 : Nat) (hf : f_X12_why g d x0 x1 x2 = some r) : XJ K 3 (Wc K T 0 0 g d) 0 [(0, .ref x0), (1, .ref x1), (2, .ref x2)] [] := by
  unfold f_X12_why at hf
  refine x_aload_n C dX12_why_0 2 rfl ?_
  obtain ⟨t1, hf⟩ := pf_ch hf
  refine cg4_4 C B t1 (fln B q457) fsm dX12_why_1 ?_
  refine x_aload_n C dX12_why_4 0 rfl ?_
  obtain ⟨t2, hf⟩ := pf_ch hf
  refine cg9_0 C B t2 (flo C q1398) fsm dX12_why_5 ?_
  refine x_iadd C dX12_why_8 ?_
  refine x_sipush (400 : Int32) C dX12_why_9 (by decide) ?_
  refine x_icmp_le (tgt := 20) C dX12_why_12 (by decide) (fun c3 => ?_) (fun c3 => ?_)
  · have hf := pf_t c3 hf
    refine x_iconst (0 : Int32) C dX12_why_20 (by decide) ?_
    obtain rfl := Option.some.inj hf
    exact c_iret C hr hQ dX12_why_21
  · have hf := pf_f c3 hf
    refine x_bipush (41 : Int32) C dX12_why_15 (by decide) ?_
    refine x_goto (tgt := 21) C dX12_why_17 (by decide) ?_
    obtain rfl := Option.some.inj hf
    exact c_iret C hr hQ dX12_why_21
theorem met_X12_why {T : CT} {v : Int32} {g : CG} {d : CD} {x0 : Nat} {x1 : Nat} {x2 : Nat} {l : Launch} (hf : f_X12_why g d x0 x1 x2 = some v) : Met l yX12_why (ws_ yX12_why cX12_why 3 (some .int)) (rmC 2 0 0) (va_Pc [.ref x0, .ref x1, .ref x2] (CU T g d)) (Qc T (some (.int v)) g d) 0 0 (cA T) :=
  c_met [.ref x0, .ref x1, .ref x2] RX12 (by decide) rfl (Nat.le_of_ble_eq_true rfl) (fun K hl hR hr C B hQ => w_X12_why_E _ _ C B hr hR hQ _ _ _ hf)
def f_X13_live (g : CG) (x0 : Nat) (x1 : Nat) (x2 : Nat) (d : CD) : Option CD := if ht g x2 = 4 then (hr g x2 0).bind fun p2 => if ht g x0 = 10 then if ht g p2 = 105 then if inb (hi d x0 0) (hn g p2) = true then (hr g p2 (Int32.toNatClampNeg (hi d x0 0))).bind fun p6 => if ht g p6 = 5 then ev (wi d p6 1 (hi d x0 1)) fun s8 => some s8 else none else none else none else none else none
set_option maxHeartbeats 4000000 in
theorem w_X13_live_E {K : KT} {T : CT} {τ : CD} (g : CG) (C : Kok K cX13_live 3 RX13) (B : CB K T) (hr : (kMe K).sig.returnType = none) (dK : kR K = rmC 2 0 0) (hQ : KQc K T none 0 0 g τ) (x0 : Nat) (x1 : Nat) (x2 : Nat) (d : CD) (hf : f_X13_live g x0 x1 x2 d = some τ) : XJ K 3 (Wc K T 0 0 g d) 0 [(0, .ref x0), (1, .ref x1), (2, .ref x2)] [] := by
  unfold f_X13_live at hf
  refine x_aload_n C dX13_live_0 2 rfl ?_
  obtain ⟨t1, hf⟩ := pf_ch hf
  obtain ⟨p2, ep2, hf⟩ := pf_b hf
  refine cg4_0 C B t1 (fln B q450) fsm ep2 dX13_live_1 ?_
  refine x_aload_n C dX13_live_4 0 rfl ?_
  obtain ⟨t3, hf⟩ := pf_ch hf
  refine cg10_0 C B t3 (flo C q1415) fsm dX13_live_5 ?_
  obtain ⟨t4, hf⟩ := pf_ch hf
  obtain ⟨h5, hf⟩ := pf_in hf
  obtain ⟨p6, ep6, hf⟩ := pf_b hf
  refine ca_ald5 C B t4 h5 ep6 dX13_live_8 ?_
  refine x_aload_n C dX13_live_9 0 rfl ?_
  refine cg10_1 C B t3 (flo C q1416) fsm dX13_live_10 ?_
  obtain ⟨t7, hf⟩ := pf_ch hf
  refine cp5_1 C B t7 (fln B q415) fsm dX13_live_13 ?_
  obtain ⟨s8, es8, hf⟩ := pf_e hf
  refine c_ren es8 ?_
  obtain rfl := Option.some.inj hf
  exact c_vret C hr hQ dX13_live_16
theorem met_X13_live {T : CT} {v : CD} {g : CG} {d : CD} {x0 : Nat} {x1 : Nat} {x2 : Nat} {l : Launch} (hf : f_X13_live g x0 x1 x2 d = some v) : Met l yX13_live (ws_ yX13_live cX13_live 3 none) (rmC 2 0 0) (va_Pc [.ref x0, .ref x1, .ref x2] (CU T g d)) (Qc T none g v) 0 0 (cA T) :=
  c_met [.ref x0, .ref x1, .ref x2] RX13 (by decide) rfl (Nat.le_of_ble_eq_true rfl) (fun K hl hR hr C B hQ => w_X13_live_E _ C B hr hR hQ _ _ _ _ hf)
def f_X4_whyMove (n : Nat) (g : CG) (d : CD) (x0 : Nat) (x1 : Nat) (x2 : Int32) (x3 : Int32) : Option Int32 := if ht g x0 = 4 then (hr g x0 0).bind fun p2 => if ht g p2 = 105 then if inb x2 (hn g p2) = true then (hr g p2 (Int32.toNatClampNeg x2)).bind fun p5 => if ht g p5 = 5 then (f_X5_isGone g d p5).bind fun r7 => if r7 = 0 then (if (hi d p5 1) = x3 then (some (2 : Int32)) else ((f_X4_at n g d x0 x1 x3).bind fun r10 => if r10 = (-1 : Int32) then (some (0 : Int32)) else (some (3 : Int32)))) else (some (1 : Int32)) else none else none else none else none
set_option maxHeartbeats 4000000 in
theorem w_X4_whyMove_E {K : KT} {T : CT} {r : Int32} (n : Nat) (g : CG) (d : CD) (C : Kok K cX4_whyMove 4 RX4) (B : CB K T) (hr : (kMe K).sig.returnType = (some .int)) (dK : kR K = rmC 3 0 0) (hQ : KQc K T (some (.int r)) 0 0 g d) (x0 : Nat) (x1 : Nat) (x2 : Int32) (x3 : Int32) (hf : f_X4_whyMove n g d x0 x1 x2 x3 = some r) : XJ K 4 (Wc K T 0 0 g d) 0 [(0, .ref x0), (1, .ref x1), (2, .int x2), (3, .int x3)] [] := by
  unfold f_X4_whyMove at hf
  refine x_aload_n C dX4_whyMove_0 0 rfl ?_
  obtain ⟨t1, hf⟩ := pf_ch hf
  obtain ⟨p2, ep2, hf⟩ := pf_b hf
  refine cg4_0 C B t1 (flo C q447) fsm ep2 dX4_whyMove_1 ?_
  refine x_iload_n C dX4_whyMove_4 2 rfl ?_
  obtain ⟨t3, hf⟩ := pf_ch hf
  obtain ⟨h4, hf⟩ := pf_in hf
  obtain ⟨p5, ep5, hf⟩ := pf_b hf
  refine ca_ald5 C B t3 h4 ep5 dX4_whyMove_5 ?_
  obtain ⟨t6, hf⟩ := pf_ch hf
  obtain ⟨r7, er7, hf⟩ := pf_b hf
  refine k_X5_isGone_X4 C B t6 dK (Nat.le_of_ble_eq_true rfl) cz er7 (Nat.le_of_ble_eq_true rfl) dX4_whyMove_6 ?_
  refine x_if_eq (tgt := 14) C dX4_whyMove_9 (by decide) (fun c8 => ?_) (fun c8 => ?_)
  · have hf := pf_t c8 hf
    refine x_aload_n C dX4_whyMove_14 0 rfl ?_
    refine cg4_0 C B t1 (flo C q447) fsm ep2 dX4_whyMove_15 ?_
    refine x_iload_n C dX4_whyMove_18 2 rfl ?_
    refine ca_ald5 C B t3 h4 ep5 dX4_whyMove_19 ?_
    refine cg5_1 C B t6 (fln B q416) fsm dX4_whyMove_20 ?_
    refine x_iload_n C dX4_whyMove_23 3 rfl ?_
    refine x_icmp_ne (tgt := 31) C dX4_whyMove_24 (by decide) (fun c9 => ?_) (fun c9 => ?_)
    · have hf := pf_f c9 hf
      refine x_aload_n C dX4_whyMove_31 0 rfl ?_
      refine x_aload_n C dX4_whyMove_32 1 rfl ?_
      refine x_iload_n C dX4_whyMove_33 3 rfl ?_
      obtain ⟨r10, er10, hf⟩ := pf_b hf
      refine k_X4_at_X4 C B t1 dK (Nat.le_of_ble_eq_true rfl) cz er10 (Nat.le_of_ble_eq_true rfl) dX4_whyMove_34 ?_
      refine x_iconst (-1 : Int32) C dX4_whyMove_37 (by decide) ?_
      refine x_icmp_eq (tgt := 45) C dX4_whyMove_38 (by decide) (fun c11 => ?_) (fun c11 => ?_)
      · have hf := pf_t c11 hf
        refine x_iconst (0 : Int32) C dX4_whyMove_45 (by decide) ?_
        obtain rfl := Option.some.inj hf
        exact c_iret C hr hQ dX4_whyMove_46
      · have hf := pf_f c11 hf
        refine x_iconst (3 : Int32) C dX4_whyMove_41 (by decide) ?_
        refine x_goto (tgt := 46) C dX4_whyMove_42 (by decide) ?_
        obtain rfl := Option.some.inj hf
        exact c_iret C hr hQ dX4_whyMove_46
    · have hf := pf_t c9 hf
      refine x_iconst (2 : Int32) C dX4_whyMove_27 (by decide) ?_
      refine x_goto (tgt := 46) C dX4_whyMove_28 (by decide) ?_
      obtain rfl := Option.some.inj hf
      exact c_iret C hr hQ dX4_whyMove_46
  · have hf := pf_f c8 hf
    refine x_iconst (1 : Int32) C dX4_whyMove_12 (by decide) ?_
    obtain rfl := Option.some.inj hf
    exact c_iret C hr hQ dX4_whyMove_13
theorem met_X4_whyMove {T : CT} {v : Int32} {n : Nat} {g : CG} {d : CD} {x0 : Nat} {x1 : Nat} {x2 : Int32} {x3 : Int32} {l : Launch} (hf : f_X4_whyMove n g d x0 x1 x2 x3 = some v) : Met l yX4_whyMove (ws_ yX4_whyMove cX4_whyMove 4 (some .int)) (rmC 3 0 0) (va_Pc [.ref x0, .ref x1, .int x2, .int x3] (CU T g d)) (Qc T (some (.int v)) g d) 0 0 (cA T) :=
  c_met [.ref x0, .ref x1, .int x2, .int x3] RX4 (by decide) rfl (Nat.le_of_ble_eq_true rfl) (fun K hl hR hr C B hQ => w_X4_whyMove_E _ _ _ C B hr hR hQ _ _ _ _ hf)
theorem k_X4_whyMove_X13 {K : KT} {T : CT} {c0 s0 c1 s1 dk : Nat} {cc : ByteArray} {nL pc : Nat} {L : List (Nat × Value)} {rest : List Value} {g : CG} {d : CD} {v : Int32} {n : Nat} {x0 : Nat} {x1 : Nat} {x2 : Int32} {x3 : Int32} (C : Kok K cc nL RX13) (B : CB K T) (hta : ht g x0 = 4) (dK : kR K = rmC dk c1 s1) (hd : 3 + 1 ≤ dk) (hcs : c0 + 0 ≤ c1 ∧ s0 + 0 ≤ s1) (hf : f_X4_whyMove n g d x0 x1 x2 x3 = some v) (hW : (rest.map fun v => v.category).sum ≤ 8) (dd : decode cc pc = .ok (.invokevirtual 16, 3)) (kk2 : XJ K nL (Wc K T c0 s0 g d) (pc + 3) L ((.int v) :: rest)) : XJ K nL (Wc K T c0 s0 g d) pc L (.int x3 :: .int x2 :: .ref x1 :: .ref x0 :: rest) :=
  c_callV (rest := rest) (v := (some (.int v))) [.ref x1, .int x2, .int x3] 3 rfl C B hta (by decide) (by decide) rfl dK hd (Nat.le_of_ble_eq_true rfl) hcs (lw_V q1484 q1047 q1048 q126 q1049) (by decide +kernel) (met_X4_whyMove hf) rfl hW dd kk2
def f_X13_why (n : Nat) (g : CG) (d : CD) (x0 : Nat) (x1 : Nat) (x2 : Nat) : Option Int32 := if ht g x0 = 10 then if ht g x2 = 4 then (f_X4_whyMove n g d x2 x1 (hi d x0 0) (hi d x0 1)).bind fun r3 => some r3 else none else none
set_option maxHeartbeats 4000000 in
theorem w_X13_why_E {K : KT} {T : CT} {r : Int32} (n : Nat) (g : CG) (d : CD) (C : Kok K cX13_why 3 RX13) (B : CB K T) (hr : (kMe K).sig.returnType = (some .int)) (dK : kR K = rmC 4 0 0) (hQ : KQc K T (some (.int r)) 0 0 g d) (x0 : Nat) (x1 : Nat) (x2 : Nat) (hf : f_X13_why n g d x0 x1 x2 = some r) : XJ K 3 (Wc K T 0 0 g d) 0 [(0, .ref x0), (1, .ref x1), (2, .ref x2)] [] := by
  unfold f_X13_why at hf
  refine x_aload_n C dX13_why_0 2 rfl ?_
  refine x_aload_n C dX13_why_1 1 rfl ?_
  refine x_aload_n C dX13_why_2 0 rfl ?_
  obtain ⟨t1, hf⟩ := pf_ch hf
  refine cg10_0 C B t1 (flo C q1415) fsm dX13_why_3 ?_
  refine x_aload_n C dX13_why_6 0 rfl ?_
  refine cg10_1 C B t1 (flo C q1416) fsm dX13_why_7 ?_
  obtain ⟨t2, hf⟩ := pf_ch hf
  obtain ⟨r3, er3, hf⟩ := pf_b hf
  refine k_X4_whyMove_X13 C B t2 dK (Nat.le_of_ble_eq_true rfl) cz er3 (Nat.le_of_ble_eq_true rfl) dX13_why_10 ?_
  obtain rfl := Option.some.inj hf
  exact c_iret C hr hQ dX13_why_13
theorem met_X13_why {T : CT} {v : Int32} {n : Nat} {g : CG} {d : CD} {x0 : Nat} {x1 : Nat} {x2 : Nat} {l : Launch} (hf : f_X13_why n g d x0 x1 x2 = some v) : Met l yX13_why (ws_ yX13_why cX13_why 3 (some .int)) (rmC 4 0 0) (va_Pc [.ref x0, .ref x1, .ref x2] (CU T g d)) (Qc T (some (.int v)) g d) 0 0 (cA T) :=
  c_met [.ref x0, .ref x1, .ref x2] RX13 (by decide) rfl (Nat.le_of_ble_eq_true rfl) (fun K hl hR hr C B hQ => w_X13_why_E _ _ _ C B hr hR hQ _ _ _ hf)
def f_X4_clean (g : CG) (x0 : Nat) (x1 : Int32) (d : CD) : Option CD := if ht g x0 = 4 then (hr g x0 0).bind fun p2 => if ht g p2 = 105 then if inb x1 (hn g p2) = true then (hr g p2 (Int32.toNatClampNeg x1)).bind fun p5 => if ht g p5 = 5 then ev (wi d p5 5 (0 : Int32)) fun s7 => ev (wi s7 p5 2 ((hi s7 p5 2) - (5 : Int32))) fun s8 => some s8 else none else none else none else none
set_option maxHeartbeats 4000000 in
theorem w_X4_clean_E {K : KT} {T : CT} {τ : CD} (g : CG) (C : Kok K cX4_clean 2 RX4) (B : CB K T) (hr : (kMe K).sig.returnType = none) (dK : kR K = rmC 2 0 0) (hQ : KQc K T none 0 0 g τ) (x0 : Nat) (x1 : Int32) (d : CD) (hf : f_X4_clean g x0 x1 d = some τ) : XJ K 2 (Wc K T 0 0 g d) 0 [(0, .ref x0), (1, .int x1)] [] := by
  unfold f_X4_clean at hf
  refine x_aload_n C dX4_clean_0 0 rfl ?_
  obtain ⟨t1, hf⟩ := pf_ch hf
  obtain ⟨p2, ep2, hf⟩ := pf_b hf
  refine cg4_0 C B t1 (flo C q447) fsm ep2 dX4_clean_1 ?_
  refine x_iload_n C dX4_clean_4 1 rfl ?_
  obtain ⟨t3, hf⟩ := pf_ch hf
  obtain ⟨h4, hf⟩ := pf_in hf
  obtain ⟨p5, ep5, hf⟩ := pf_b hf
  refine ca_ald5 C B t3 h4 ep5 dX4_clean_5 ?_
  refine x_iconst (0 : Int32) C dX4_clean_6 (by decide) ?_
  obtain ⟨t6, hf⟩ := pf_ch hf
  refine cp5_5 C B t6 (fln B q432) fsm (Or.inl rfl) dX4_clean_7 ?_
  obtain ⟨s7, es7, hf⟩ := pf_e hf
  refine c_ren es7 ?_
  refine x_aload_n C dX4_clean_10 0 rfl ?_
  refine cg4_0 C B t1 (flo C q447) fsm ep2 dX4_clean_11 ?_
  refine x_iload_n C dX4_clean_14 1 rfl ?_
  refine ca_ald5 C B t3 h4 ep5 dX4_clean_15 ?_
  refine x_dup C dX4_clean_16 rfl ?_
  refine cg5_2 C B t6 (fln B q420) fsm dX4_clean_17 ?_
  refine x_iconst (5 : Int32) C dX4_clean_20 (by decide) ?_
  refine x_isub C dX4_clean_21 ?_
  refine cp5_2 C B t6 (fln B q420) fsm dX4_clean_22 ?_
  obtain ⟨s8, es8, hf⟩ := pf_e hf
  refine c_ren es8 ?_
  obtain rfl := Option.some.inj hf
  exact c_vret C hr hQ dX4_clean_25
theorem met_X4_clean {T : CT} {v : CD} {g : CG} {d : CD} {x0 : Nat} {x1 : Int32} {l : Launch} (hf : f_X4_clean g x0 x1 d = some v) : Met l yX4_clean (ws_ yX4_clean cX4_clean 2 none) (rmC 2 0 0) (va_Pc [.ref x0, .int x1] (CU T g d)) (Qc T none g v) 0 0 (cA T) :=
  c_met [.ref x0, .int x1] RX4 (by decide) rfl (Nat.le_of_ble_eq_true rfl) (fun K hl hR hr C B hQ => w_X4_clean_E _ C B hr hR hQ _ _ _ hf)
theorem k_X4_clean_X14 {K : KT} {T : CT} {c0 s0 c1 s1 dk : Nat} {cc : ByteArray} {nL pc : Nat} {L : List (Nat × Value)} {rest : List Value} {g : CG} {d : CD} {v : CD} {x0 : Nat} {x1 : Int32} (C : Kok K cc nL RX14) (B : CB K T) (hta : ht g x0 = 4) (dK : kR K = rmC dk c1 s1) (hd : 2 + 1 ≤ dk) (hcs : c0 + 0 ≤ c1 ∧ s0 + 0 ≤ s1) (hf : f_X4_clean g x0 x1 d = some v) (hW : (rest.map fun v => v.category).sum ≤ 8) (dd : decode cc pc = .ok (.invokevirtual 19, 3)) (kk2 : XJ K nL (Wc K T c0 s0 g v) (pc + 3) L (rest)) : XJ K nL (Wc K T c0 s0 g d) pc L (.int x1 :: .ref x0 :: rest) :=
  c_callV (rest := rest) (v := none) [.int x1] 1 rfl C B hta (by decide) (by decide) rfl dK hd (Nat.le_of_ble_eq_true rfl) hcs (lw_V q1495 q1065 q1066 q126 q1067) (by decide +kernel) (met_X4_clean hf) rfl hW dd kk2
def f_X14_live (g : CG) (x0 : Nat) (x1 : Nat) (x2 : Nat) (d : CD) : Option CD := if ht g x0 = 11 then if ht g x2 = 4 then (f_X4_clean g x2 (hi d x0 0) d).bind fun r3 => some r3 else none else none
set_option maxHeartbeats 4000000 in
theorem w_X14_live_E {K : KT} {T : CT} {τ : CD} (g : CG) (C : Kok K cX14_live 3 RX14) (B : CB K T) (hr : (kMe K).sig.returnType = none) (dK : kR K = rmC 3 0 0) (hQ : KQc K T none 0 0 g τ) (x0 : Nat) (x1 : Nat) (x2 : Nat) (d : CD) (hf : f_X14_live g x0 x1 x2 d = some τ) : XJ K 3 (Wc K T 0 0 g d) 0 [(0, .ref x0), (1, .ref x1), (2, .ref x2)] [] := by
  unfold f_X14_live at hf
  refine x_aload_n C dX14_live_0 2 rfl ?_
  refine x_aload_n C dX14_live_1 0 rfl ?_
  obtain ⟨t1, hf⟩ := pf_ch hf
  refine cg11_0 C B t1 (flo C q1429) fsm dX14_live_2 ?_
  obtain ⟨t2, hf⟩ := pf_ch hf
  obtain ⟨r3, er3, hf⟩ := pf_b hf
  refine k_X4_clean_X14 C B t2 dK (Nat.le_of_ble_eq_true rfl) cz er3 (Nat.le_of_ble_eq_true rfl) dX14_live_5 ?_
  obtain rfl := Option.some.inj hf
  exact c_vret C hr hQ dX14_live_8
theorem met_X14_live {T : CT} {v : CD} {g : CG} {d : CD} {x0 : Nat} {x1 : Nat} {x2 : Nat} {l : Launch} (hf : f_X14_live g x0 x1 x2 d = some v) : Met l yX14_live (ws_ yX14_live cX14_live 3 none) (rmC 3 0 0) (va_Pc [.ref x0, .ref x1, .ref x2] (CU T g d)) (Qc T none g v) 0 0 (cA T) :=
  c_met [.ref x0, .ref x1, .ref x2] RX14 (by decide) rfl (Nat.le_of_ble_eq_true rfl) (fun K hl hR hr C B hQ => w_X14_live_E _ C B hr hR hQ _ _ _ _ hf)
def f_X4_whyClean (g : CG) (d : CD) (x0 : Nat) (x1 : Int32) : Option Int32 := if ht g x0 = 4 then (hr g x0 0).bind fun p2 => if ht g p2 = 105 then if inb x1 (hn g p2) = true then (hr g p2 (Int32.toNatClampNeg x1)).bind fun p5 => if ht g p5 = 5 then (f_X5_isGone g d p5).bind fun r7 => if r7 = 0 then (if (hi d p5 5) = 0 then (some (2 : Int32)) else (if (5 : Int32) ≤ (hi d p5 2) then (some (0 : Int32)) else (some (3 : Int32)))) else (some (1 : Int32)) else none else none else none else none
set_option maxHeartbeats 4000000 in
theorem w_X4_whyClean_E {K : KT} {T : CT} {r : Int32} (g : CG) (d : CD) (C : Kok K cX4_whyClean 2 RX4) (B : CB K T) (hr : (kMe K).sig.returnType = (some .int)) (dK : kR K = rmC 3 0 0) (hQ : KQc K T (some (.int r)) 0 0 g d) (x0 : Nat) (x1 : Int32) (hf : f_X4_whyClean g d x0 x1 = some r) : XJ K 2 (Wc K T 0 0 g d) 0 [(0, .ref x0), (1, .int x1)] [] := by
  unfold f_X4_whyClean at hf
  refine x_aload_n C dX4_whyClean_0 0 rfl ?_
  obtain ⟨t1, hf⟩ := pf_ch hf
  obtain ⟨p2, ep2, hf⟩ := pf_b hf
  refine cg4_0 C B t1 (flo C q447) fsm ep2 dX4_whyClean_1 ?_
  refine x_iload_n C dX4_whyClean_4 1 rfl ?_
  obtain ⟨t3, hf⟩ := pf_ch hf
  obtain ⟨h4, hf⟩ := pf_in hf
  obtain ⟨p5, ep5, hf⟩ := pf_b hf
  refine ca_ald5 C B t3 h4 ep5 dX4_whyClean_5 ?_
  obtain ⟨t6, hf⟩ := pf_ch hf
  obtain ⟨r7, er7, hf⟩ := pf_b hf
  refine k_X5_isGone_X4 C B t6 dK (Nat.le_of_ble_eq_true rfl) cz er7 (Nat.le_of_ble_eq_true rfl) dX4_whyClean_6 ?_
  refine x_if_eq (tgt := 16) C dX4_whyClean_9 (by decide) (fun c8 => ?_) (fun c8 => ?_)
  · have hf := pf_t c8 hf
    refine x_aload_n C dX4_whyClean_16 0 rfl ?_
    refine cg4_0 C B t1 (flo C q447) fsm ep2 dX4_whyClean_17 ?_
    refine x_iload_n C dX4_whyClean_20 1 rfl ?_
    refine ca_ald5 C B t3 h4 ep5 dX4_whyClean_21 ?_
    refine cg5_5 C B t6 (fln B q432) fsm dX4_whyClean_22 ?_
    refine x_if_ne (tgt := 32) C dX4_whyClean_25 (by decide) (fun c9 => ?_) (fun c9 => ?_)
    · have hf := pf_f c9 hf
      refine x_aload_n C dX4_whyClean_32 0 rfl ?_
      refine cg4_0 C B t1 (flo C q447) fsm ep2 dX4_whyClean_33 ?_
      refine x_iload_n C dX4_whyClean_36 1 rfl ?_
      refine ca_ald5 C B t3 h4 ep5 dX4_whyClean_37 ?_
      refine cg5_2 C B t6 (fln B q420) fsm dX4_whyClean_38 ?_
      refine x_iconst (5 : Int32) C dX4_whyClean_41 (by decide) ?_
      refine x_icmp_ge (tgt := 49) C dX4_whyClean_42 (by decide) (fun c10 => ?_) (fun c10 => ?_)
      · have hf := pf_t c10 hf
        refine x_iconst (0 : Int32) C dX4_whyClean_49 (by decide) ?_
        obtain rfl := Option.some.inj hf
        exact c_iret C hr hQ dX4_whyClean_50
      · have hf := pf_f c10 hf
        refine x_iconst (3 : Int32) C dX4_whyClean_45 (by decide) ?_
        refine x_goto (tgt := 50) C dX4_whyClean_46 (by decide) ?_
        obtain rfl := Option.some.inj hf
        exact c_iret C hr hQ dX4_whyClean_50
    · have hf := pf_t c9 hf
      refine x_iconst (2 : Int32) C dX4_whyClean_28 (by decide) ?_
      refine x_goto (tgt := 50) C dX4_whyClean_29 (by decide) ?_
      obtain rfl := Option.some.inj hf
      exact c_iret C hr hQ dX4_whyClean_50
  · have hf := pf_f c8 hf
    refine x_iconst (1 : Int32) C dX4_whyClean_12 (by decide) ?_
    refine x_goto (tgt := 50) C dX4_whyClean_13 (by decide) ?_
    obtain rfl := Option.some.inj hf
    exact c_iret C hr hQ dX4_whyClean_50
theorem met_X4_whyClean {T : CT} {v : Int32} {g : CG} {d : CD} {x0 : Nat} {x1 : Int32} {l : Launch} (hf : f_X4_whyClean g d x0 x1 = some v) : Met l yX4_whyClean (ws_ yX4_whyClean cX4_whyClean 2 (some .int)) (rmC 3 0 0) (va_Pc [.ref x0, .int x1] (CU T g d)) (Qc T (some (.int v)) g d) 0 0 (cA T) :=
  c_met [.ref x0, .int x1] RX4 (by decide) rfl (Nat.le_of_ble_eq_true rfl) (fun K hl hR hr C B hQ => w_X4_whyClean_E _ _ C B hr hR hQ _ _ hf)
theorem k_X4_whyClean_X14 {K : KT} {T : CT} {c0 s0 c1 s1 dk : Nat} {cc : ByteArray} {nL pc : Nat} {L : List (Nat × Value)} {rest : List Value} {g : CG} {d : CD} {v : Int32} {x0 : Nat} {x1 : Int32} (C : Kok K cc nL RX14) (B : CB K T) (hta : ht g x0 = 4) (dK : kR K = rmC dk c1 s1) (hd : 3 + 1 ≤ dk) (hcs : c0 + 0 ≤ c1 ∧ s0 + 0 ≤ s1) (hf : f_X4_whyClean g d x0 x1 = some v) (hW : (rest.map fun v => v.category).sum ≤ 8) (dd : decode cc pc = .ok (.invokevirtual 13, 3)) (kk2 : XJ K nL (Wc K T c0 s0 g d) (pc + 3) L ((.int v) :: rest)) : XJ K nL (Wc K T c0 s0 g d) pc L (.int x1 :: .ref x0 :: rest) :=
  c_callV (rest := rest) (v := (some (.int v))) [.int x1] 1 rfl C B hta (by decide) (by decide) rfl dK hd (Nat.le_of_ble_eq_true rfl) hcs (lw_V q1473 q1061 q1062 q126 q1063) (by decide +kernel) (met_X4_whyClean hf) rfl hW dd kk2
def f_X14_why (g : CG) (d : CD) (x0 : Nat) (x1 : Nat) (x2 : Nat) : Option Int32 := if ht g x0 = 11 then if ht g x2 = 4 then (f_X4_whyClean g d x2 (hi d x0 0)).bind fun r3 => if r3 = 0 then (some (0 : Int32)) else ((f_X4_whyClean g d x2 (hi d x0 0)).bind fun r5 => some ((10 : Int32) + r5)) else none else none
set_option maxHeartbeats 4000000 in
theorem w_X14_why_E {K : KT} {T : CT} {r : Int32} (g : CG) (d : CD) (C : Kok K cX14_why 3 RX14) (B : CB K T) (hr : (kMe K).sig.returnType = (some .int)) (dK : kR K = rmC 4 0 0) (hQ : KQc K T (some (.int r)) 0 0 g d) (x0 : Nat) (x1 : Nat) (x2 : Nat) (hf : f_X14_why g d x0 x1 x2 = some r) : XJ K 3 (Wc K T 0 0 g d) 0 [(0, .ref x0), (1, .ref x1), (2, .ref x2)] [] := by
  unfold f_X14_why at hf
  refine x_aload_n C dX14_why_0 2 rfl ?_
  refine x_aload_n C dX14_why_1 0 rfl ?_
  obtain ⟨t1, hf⟩ := pf_ch hf
  refine cg11_0 C B t1 (flo C q1429) fsm dX14_why_2 ?_
  obtain ⟨t2, hf⟩ := pf_ch hf
  obtain ⟨r3, er3, hf⟩ := pf_b hf
  refine k_X4_whyClean_X14 C B t2 dK (Nat.le_of_ble_eq_true rfl) cz er3 (Nat.le_of_ble_eq_true rfl) dX14_why_5 ?_
  refine x_if_ne (tgt := 15) C dX14_why_8 (by decide) (fun c4 => ?_) (fun c4 => ?_)
  · have hf := pf_f c4 hf
    refine x_bipush (10 : Int32) C dX14_why_15 (by decide) ?_
    refine x_aload_n C dX14_why_17 2 rfl ?_
    refine x_aload_n C dX14_why_18 0 rfl ?_
    refine cg11_0 C B t1 (flo C q1429) fsm dX14_why_19 ?_
    obtain ⟨r5, er5, hf⟩ := pf_b hf
    refine k_X4_whyClean_X14 C B t2 dK (Nat.le_of_ble_eq_true rfl) cz er5 (Nat.le_of_ble_eq_true rfl) dX14_why_22 ?_
    refine x_iadd C dX14_why_25 ?_
    obtain rfl := Option.some.inj hf
    exact c_iret C hr hQ dX14_why_26
  · have hf := pf_t c4 hf
    refine x_iconst (0 : Int32) C dX14_why_11 (by decide) ?_
    refine x_goto (tgt := 26) C dX14_why_12 (by decide) ?_
    obtain rfl := Option.some.inj hf
    exact c_iret C hr hQ dX14_why_26
theorem met_X14_why {T : CT} {v : Int32} {g : CG} {d : CD} {x0 : Nat} {x1 : Nat} {x2 : Nat} {l : Launch} (hf : f_X14_why g d x0 x1 x2 = some v) : Met l yX14_why (ws_ yX14_why cX14_why 3 (some .int)) (rmC 4 0 0) (va_Pc [.ref x0, .ref x1, .ref x2] (CU T g d)) (Qc T (some (.int v)) g d) 0 0 (cA T) :=
  c_met [.ref x0, .ref x1, .ref x2] RX14 (by decide) rfl (Nat.le_of_ble_eq_true rfl) (fun K hl hR hr C B hQ => w_X14_why_E _ _ C B hr hR hQ _ _ _ hf)
def f_X4_show (g : CG) (x0 : Nat) (x1 : Int32) (x2 : Int32) (d : CD) : Option CD := if ht g x0 = 4 then (hr g x0 0).bind fun p2 => if ht g p2 = 105 then if inb x1 (hn g p2) = true then (hr g p2 (Int32.toNatClampNeg x1)).bind fun p5 => if ht g p5 = 5 then ev (wi d p5 0 x2) fun s7 => ev (wi s7 p5 2 ((hi s7 p5 2) - (10 : Int32))) fun s8 => some s8 else none else none else none else none
set_option maxHeartbeats 4000000 in
theorem w_X4_show_E {K : KT} {T : CT} {τ : CD} (g : CG) (C : Kok K cX4_show 3 RX4) (B : CB K T) (hr : (kMe K).sig.returnType = none) (dK : kR K = rmC 2 0 0) (hQ : KQc K T none 0 0 g τ) (x0 : Nat) (x1 : Int32) (x2 : Int32) (d : CD) (hf : f_X4_show g x0 x1 x2 d = some τ) : XJ K 3 (Wc K T 0 0 g d) 0 [(0, .ref x0), (1, .int x1), (2, .int x2)] [] := by
  unfold f_X4_show at hf
  refine x_aload_n C dX4_show_0 0 rfl ?_
  obtain ⟨t1, hf⟩ := pf_ch hf
  obtain ⟨p2, ep2, hf⟩ := pf_b hf
  refine cg4_0 C B t1 (flo C q447) fsm ep2 dX4_show_1 ?_
  refine x_iload_n C dX4_show_4 1 rfl ?_
  obtain ⟨t3, hf⟩ := pf_ch hf
  obtain ⟨h4, hf⟩ := pf_in hf
  obtain ⟨p5, ep5, hf⟩ := pf_b hf
  refine ca_ald5 C B t3 h4 ep5 dX4_show_5 ?_
  refine x_iload_n C dX4_show_6 2 rfl ?_
  obtain ⟨t6, hf⟩ := pf_ch hf
  refine cp5_0 C B t6 (fln B q411) fsm dX4_show_7 ?_
  obtain ⟨s7, es7, hf⟩ := pf_e hf
  refine c_ren es7 ?_
  refine x_aload_n C dX4_show_10 0 rfl ?_
  refine cg4_0 C B t1 (flo C q447) fsm ep2 dX4_show_11 ?_
  refine x_iload_n C dX4_show_14 1 rfl ?_
  refine ca_ald5 C B t3 h4 ep5 dX4_show_15 ?_
  refine x_dup C dX4_show_16 rfl ?_
  refine cg5_2 C B t6 (fln B q420) fsm dX4_show_17 ?_
  refine x_bipush (10 : Int32) C dX4_show_20 (by decide) ?_
  refine x_isub C dX4_show_22 ?_
  refine cp5_2 C B t6 (fln B q420) fsm dX4_show_23 ?_
  obtain ⟨s8, es8, hf⟩ := pf_e hf
  refine c_ren es8 ?_
  obtain rfl := Option.some.inj hf
  exact c_vret C hr hQ dX4_show_26
theorem met_X4_show {T : CT} {v : CD} {g : CG} {d : CD} {x0 : Nat} {x1 : Int32} {x2 : Int32} {l : Launch} (hf : f_X4_show g x0 x1 x2 d = some v) : Met l yX4_show (ws_ yX4_show cX4_show 3 none) (rmC 2 0 0) (va_Pc [.ref x0, .int x1, .int x2] (CU T g d)) (Qc T none g v) 0 0 (cA T) :=
  c_met [.ref x0, .int x1, .int x2] RX4 (by decide) rfl (Nat.le_of_ble_eq_true rfl) (fun K hl hR hr C B hQ => w_X4_show_E _ C B hr hR hQ _ _ _ _ hf)
theorem k_X4_show_X15 {K : KT} {T : CT} {c0 s0 c1 s1 dk : Nat} {cc : ByteArray} {nL pc : Nat} {L : List (Nat × Value)} {rest : List Value} {g : CG} {d : CD} {v : CD} {x0 : Nat} {x1 : Int32} {x2 : Int32} (C : Kok K cc nL RX15) (B : CB K T) (hta : ht g x0 = 4) (dK : kR K = rmC dk c1 s1) (hd : 2 + 1 ≤ dk) (hcs : c0 + 0 ≤ c1 ∧ s0 + 0 ≤ s1) (hf : f_X4_show g x0 x1 x2 d = some v) (hW : (rest.map fun v => v.category).sum ≤ 8) (dd : decode cc pc = .ok (.invokevirtual 22, 3)) (kk2 : XJ K nL (Wc K T c0 s0 g v) (pc + 3) L (rest)) : XJ K nL (Wc K T c0 s0 g d) pc L (.int x2 :: .int x1 :: .ref x0 :: rest) :=
  c_callV (rest := rest) (v := none) [.int x1, .int x2] 2 rfl C B hta (by decide) (by decide) rfl dK hd (Nat.le_of_ble_eq_true rfl) hcs (lw_V q1510 q1077 q1078 q126 q1079) (by decide +kernel) (met_X4_show hf) rfl hW dd kk2
def f_X15_live (g : CG) (x0 : Nat) (x1 : Nat) (x2 : Nat) (d : CD) : Option CD := if ht g x0 = 12 then if ht g x2 = 4 then (f_X4_show g x2 (hi d x0 0) (hi d x0 1) d).bind fun r3 => some r3 else none else none
set_option maxHeartbeats 4000000 in
theorem w_X15_live_E {K : KT} {T : CT} {τ : CD} (g : CG) (C : Kok K cX15_live 3 RX15) (B : CB K T) (hr : (kMe K).sig.returnType = none) (dK : kR K = rmC 3 0 0) (hQ : KQc K T none 0 0 g τ) (x0 : Nat) (x1 : Nat) (x2 : Nat) (d : CD) (hf : f_X15_live g x0 x1 x2 d = some τ) : XJ K 3 (Wc K T 0 0 g d) 0 [(0, .ref x0), (1, .ref x1), (2, .ref x2)] [] := by
  unfold f_X15_live at hf
  refine x_aload_n C dX15_live_0 2 rfl ?_
  refine x_aload_n C dX15_live_1 0 rfl ?_
  obtain ⟨t1, hf⟩ := pf_ch hf
  refine cg12_0 C B t1 (flo C q1440) fsm dX15_live_2 ?_
  refine x_aload_n C dX15_live_5 0 rfl ?_
  refine cg12_1 C B t1 (flo C q1441) fsm dX15_live_6 ?_
  obtain ⟨t2, hf⟩ := pf_ch hf
  obtain ⟨r3, er3, hf⟩ := pf_b hf
  refine k_X4_show_X15 C B t2 dK (Nat.le_of_ble_eq_true rfl) cz er3 (Nat.le_of_ble_eq_true rfl) dX15_live_9 ?_
  obtain rfl := Option.some.inj hf
  exact c_vret C hr hQ dX15_live_12
theorem met_X15_live {T : CT} {v : CD} {g : CG} {d : CD} {x0 : Nat} {x1 : Nat} {x2 : Nat} {l : Launch} (hf : f_X15_live g x0 x1 x2 d = some v) : Met l yX15_live (ws_ yX15_live cX15_live 3 none) (rmC 3 0 0) (va_Pc [.ref x0, .ref x1, .ref x2] (CU T g d)) (Qc T none g v) 0 0 (cA T) :=
  c_met [.ref x0, .ref x1, .ref x2] RX15 (by decide) rfl (Nat.le_of_ble_eq_true rfl) (fun K hl hR hr C B hQ => w_X15_live_E _ C B hr hR hQ _ _ _ _ hf)
def f_X4_whyShow (g : CG) (d : CD) (x0 : Nat) (x1 : Int32) (x2 : Int32) : Option Int32 := if ht g x0 = 4 then (hr g x0 0).bind fun p2 => if ht g p2 = 105 then if inb x1 (hn g p2) = true then (hr g p2 (Int32.toNatClampNeg x1)).bind fun p5 => if ht g p5 = 5 then (f_X5_isGone g d p5).bind fun r7 => if r7 = 0 then (if (hi d p5 0) = x2 then (some (2 : Int32)) else (if (10 : Int32) ≤ (hi d p5 2) then (some (0 : Int32)) else (some (3 : Int32)))) else (some (1 : Int32)) else none else none else none else none
set_option maxHeartbeats 4000000 in
theorem w_X4_whyShow_E {K : KT} {T : CT} {r : Int32} (g : CG) (d : CD) (C : Kok K cX4_whyShow 3 RX4) (B : CB K T) (hr : (kMe K).sig.returnType = (some .int)) (dK : kR K = rmC 3 0 0) (hQ : KQc K T (some (.int r)) 0 0 g d) (x0 : Nat) (x1 : Int32) (x2 : Int32) (hf : f_X4_whyShow g d x0 x1 x2 = some r) : XJ K 3 (Wc K T 0 0 g d) 0 [(0, .ref x0), (1, .int x1), (2, .int x2)] [] := by
  unfold f_X4_whyShow at hf
  refine x_aload_n C dX4_whyShow_0 0 rfl ?_
  obtain ⟨t1, hf⟩ := pf_ch hf
  obtain ⟨p2, ep2, hf⟩ := pf_b hf
  refine cg4_0 C B t1 (flo C q447) fsm ep2 dX4_whyShow_1 ?_
  refine x_iload_n C dX4_whyShow_4 1 rfl ?_
  obtain ⟨t3, hf⟩ := pf_ch hf
  obtain ⟨h4, hf⟩ := pf_in hf
  obtain ⟨p5, ep5, hf⟩ := pf_b hf
  refine ca_ald5 C B t3 h4 ep5 dX4_whyShow_5 ?_
  obtain ⟨t6, hf⟩ := pf_ch hf
  obtain ⟨r7, er7, hf⟩ := pf_b hf
  refine k_X5_isGone_X4 C B t6 dK (Nat.le_of_ble_eq_true rfl) cz er7 (Nat.le_of_ble_eq_true rfl) dX4_whyShow_6 ?_
  refine x_if_eq (tgt := 16) C dX4_whyShow_9 (by decide) (fun c8 => ?_) (fun c8 => ?_)
  · have hf := pf_t c8 hf
    refine x_aload_n C dX4_whyShow_16 0 rfl ?_
    refine cg4_0 C B t1 (flo C q447) fsm ep2 dX4_whyShow_17 ?_
    refine x_iload_n C dX4_whyShow_20 1 rfl ?_
    refine ca_ald5 C B t3 h4 ep5 dX4_whyShow_21 ?_
    refine cg5_0 C B t6 (fln B q411) fsm dX4_whyShow_22 ?_
    refine x_iload_n C dX4_whyShow_25 2 rfl ?_
    refine x_icmp_ne (tgt := 33) C dX4_whyShow_26 (by decide) (fun c9 => ?_) (fun c9 => ?_)
    · have hf := pf_f c9 hf
      refine x_aload_n C dX4_whyShow_33 0 rfl ?_
      refine cg4_0 C B t1 (flo C q447) fsm ep2 dX4_whyShow_34 ?_
      refine x_iload_n C dX4_whyShow_37 1 rfl ?_
      refine ca_ald5 C B t3 h4 ep5 dX4_whyShow_38 ?_
      refine cg5_2 C B t6 (fln B q420) fsm dX4_whyShow_39 ?_
      refine x_bipush (10 : Int32) C dX4_whyShow_42 (by decide) ?_
      refine x_icmp_ge (tgt := 51) C dX4_whyShow_44 (by decide) (fun c10 => ?_) (fun c10 => ?_)
      · have hf := pf_t c10 hf
        refine x_iconst (0 : Int32) C dX4_whyShow_51 (by decide) ?_
        obtain rfl := Option.some.inj hf
        exact c_iret C hr hQ dX4_whyShow_52
      · have hf := pf_f c10 hf
        refine x_iconst (3 : Int32) C dX4_whyShow_47 (by decide) ?_
        refine x_goto (tgt := 52) C dX4_whyShow_48 (by decide) ?_
        obtain rfl := Option.some.inj hf
        exact c_iret C hr hQ dX4_whyShow_52
    · have hf := pf_t c9 hf
      refine x_iconst (2 : Int32) C dX4_whyShow_29 (by decide) ?_
      refine x_goto (tgt := 52) C dX4_whyShow_30 (by decide) ?_
      obtain rfl := Option.some.inj hf
      exact c_iret C hr hQ dX4_whyShow_52
  · have hf := pf_f c8 hf
    refine x_iconst (1 : Int32) C dX4_whyShow_12 (by decide) ?_
    refine x_goto (tgt := 52) C dX4_whyShow_13 (by decide) ?_
    obtain rfl := Option.some.inj hf
    exact c_iret C hr hQ dX4_whyShow_52
theorem met_X4_whyShow {T : CT} {v : Int32} {g : CG} {d : CD} {x0 : Nat} {x1 : Int32} {x2 : Int32} {l : Launch} (hf : f_X4_whyShow g d x0 x1 x2 = some v) : Met l yX4_whyShow (ws_ yX4_whyShow cX4_whyShow 3 (some .int)) (rmC 3 0 0) (va_Pc [.ref x0, .int x1, .int x2] (CU T g d)) (Qc T (some (.int v)) g d) 0 0 (cA T) :=
  c_met [.ref x0, .int x1, .int x2] RX4 (by decide) rfl (Nat.le_of_ble_eq_true rfl) (fun K hl hR hr C B hQ => w_X4_whyShow_E _ _ C B hr hR hQ _ _ _ hf)
theorem k_X4_whyShow_X15 {K : KT} {T : CT} {c0 s0 c1 s1 dk : Nat} {cc : ByteArray} {nL pc : Nat} {L : List (Nat × Value)} {rest : List Value} {g : CG} {d : CD} {v : Int32} {x0 : Nat} {x1 : Int32} {x2 : Int32} (C : Kok K cc nL RX15) (B : CB K T) (hta : ht g x0 = 4) (dK : kR K = rmC dk c1 s1) (hd : 3 + 1 ≤ dk) (hcs : c0 + 0 ≤ c1 ∧ s0 + 0 ≤ s1) (hf : f_X4_whyShow g d x0 x1 x2 = some v) (hW : (rest.map fun v => v.category).sum ≤ 8) (dd : decode cc pc = .ok (.invokevirtual 16, 3)) (kk2 : XJ K nL (Wc K T c0 s0 g d) (pc + 3) L ((.int v) :: rest)) : XJ K nL (Wc K T c0 s0 g d) pc L (.int x2 :: .int x1 :: .ref x0 :: rest) :=
  c_callV (rest := rest) (v := (some (.int v))) [.int x1, .int x2] 2 rfl C B hta (by decide) (by decide) rfl dK hd (Nat.le_of_ble_eq_true rfl) hcs (lw_V q1488 q1073 q1074 q126 q1075) (by decide +kernel) (met_X4_whyShow hf) rfl hW dd kk2
def f_X15_why (g : CG) (d : CD) (x0 : Nat) (x1 : Nat) (x2 : Nat) : Option Int32 := if ht g x0 = 12 then if ht g x2 = 4 then (f_X4_whyShow g d x2 (hi d x0 0) (hi d x0 1)).bind fun r3 => if r3 = 0 then (some (0 : Int32)) else ((f_X4_whyShow g d x2 (hi d x0 0) (hi d x0 1)).bind fun r5 => some ((20 : Int32) + r5)) else none else none
set_option maxHeartbeats 4000000 in
theorem w_X15_why_E {K : KT} {T : CT} {r : Int32} (g : CG) (d : CD) (C : Kok K cX15_why 3 RX15) (B : CB K T) (hr : (kMe K).sig.returnType = (some .int)) (dK : kR K = rmC 4 0 0) (hQ : KQc K T (some (.int r)) 0 0 g d) (x0 : Nat) (x1 : Nat) (x2 : Nat) (hf : f_X15_why g d x0 x1 x2 = some r) : XJ K 3 (Wc K T 0 0 g d) 0 [(0, .ref x0), (1, .ref x1), (2, .ref x2)] [] := by
  unfold f_X15_why at hf
  refine x_aload_n C dX15_why_0 2 rfl ?_
  refine x_aload_n C dX15_why_1 0 rfl ?_
  obtain ⟨t1, hf⟩ := pf_ch hf
  refine cg12_0 C B t1 (flo C q1440) fsm dX15_why_2 ?_
  refine x_aload_n C dX15_why_5 0 rfl ?_
  refine cg12_1 C B t1 (flo C q1441) fsm dX15_why_6 ?_
  obtain ⟨t2, hf⟩ := pf_ch hf
  obtain ⟨r3, er3, hf⟩ := pf_b hf
  refine k_X4_whyShow_X15 C B t2 dK (Nat.le_of_ble_eq_true rfl) cz er3 (Nat.le_of_ble_eq_true rfl) dX15_why_9 ?_
  refine x_if_ne (tgt := 19) C dX15_why_12 (by decide) (fun c4 => ?_) (fun c4 => ?_)
  · have hf := pf_f c4 hf
    refine x_bipush (20 : Int32) C dX15_why_19 (by decide) ?_
    refine x_aload_n C dX15_why_21 2 rfl ?_
    refine x_aload_n C dX15_why_22 0 rfl ?_
    refine cg12_0 C B t1 (flo C q1440) fsm dX15_why_23 ?_
    refine x_aload_n C dX15_why_26 0 rfl ?_
    refine cg12_1 C B t1 (flo C q1441) fsm dX15_why_27 ?_
    obtain ⟨r5, er5, hf⟩ := pf_b hf
    refine k_X4_whyShow_X15 C B t2 dK (Nat.le_of_ble_eq_true rfl) cz er5 (Nat.le_of_ble_eq_true rfl) dX15_why_30 ?_
    refine x_iadd C dX15_why_33 ?_
    obtain rfl := Option.some.inj hf
    exact c_iret C hr hQ dX15_why_34
  · have hf := pf_t c4 hf
    refine x_iconst (0 : Int32) C dX15_why_15 (by decide) ?_
    refine x_goto (tgt := 34) C dX15_why_16 (by decide) ?_
    obtain rfl := Option.some.inj hf
    exact c_iret C hr hQ dX15_why_34
theorem met_X15_why {T : CT} {v : Int32} {g : CG} {d : CD} {x0 : Nat} {x1 : Nat} {x2 : Nat} {l : Launch} (hf : f_X15_why g d x0 x1 x2 = some v) : Met l yX15_why (ws_ yX15_why cX15_why 3 (some .int)) (rmC 4 0 0) (va_Pc [.ref x0, .ref x1, .ref x2] (CU T g d)) (Qc T (some (.int v)) g d) 0 0 (cA T) :=
  c_met [.ref x0, .ref x1, .ref x2] RX15 (by decide) rfl (Nat.le_of_ble_eq_true rfl) (fun K hl hR hr C B hQ => w_X15_why_E _ _ C B hr hR hQ _ _ _ hf)
def f_X4_lend (g : CG) (x0 : Nat) (x1 : Int32) (x2 : Int32) (x3 : Int32) (d : CD) : Option CD := if ht g x0 = 4 then (hr g x0 0).bind fun p2 => if ht g p2 = 105 then if inb x1 (hn g p2) = true then (hr g p2 (Int32.toNatClampNeg x1)).bind fun p5 => if ht g p5 = 5 then ev (wi d p5 2 ((hi d p5 2) - x3)) fun s7 => if inb x2 (hn g p2) = true then (hr g p2 (Int32.toNatClampNeg x2)).bind fun p9 => if ht g p9 = 5 then ev (wi s7 p9 3 ((hi s7 p9 3) - x3)) fun s11 => some s11 else none else none else none else none else none else none
set_option maxHeartbeats 4000000 in
theorem w_X4_lend_E {K : KT} {T : CT} {τ : CD} (g : CG) (C : Kok K cX4_lend 4 RX4) (B : CB K T) (hr : (kMe K).sig.returnType = none) (dK : kR K = rmC 2 0 0) (hQ : KQc K T none 0 0 g τ) (x0 : Nat) (x1 : Int32) (x2 : Int32) (x3 : Int32) (d : CD) (hf : f_X4_lend g x0 x1 x2 x3 d = some τ) : XJ K 4 (Wc K T 0 0 g d) 0 [(0, .ref x0), (1, .int x1), (2, .int x2), (3, .int x3)] [] := by
  unfold f_X4_lend at hf
  refine x_aload_n C dX4_lend_0 0 rfl ?_
  obtain ⟨t1, hf⟩ := pf_ch hf
  obtain ⟨p2, ep2, hf⟩ := pf_b hf
  refine cg4_0 C B t1 (flo C q447) fsm ep2 dX4_lend_1 ?_
  refine x_iload_n C dX4_lend_4 1 rfl ?_
  obtain ⟨t3, hf⟩ := pf_ch hf
  obtain ⟨h4, hf⟩ := pf_in hf
  obtain ⟨p5, ep5, hf⟩ := pf_b hf
  refine ca_ald5 C B t3 h4 ep5 dX4_lend_5 ?_
  refine x_dup C dX4_lend_6 rfl ?_
  obtain ⟨t6, hf⟩ := pf_ch hf
  refine cg5_2 C B t6 (fln B q420) fsm dX4_lend_7 ?_
  refine x_iload_n C dX4_lend_10 3 rfl ?_
  refine x_isub C dX4_lend_11 ?_
  refine cp5_2 C B t6 (fln B q420) fsm dX4_lend_12 ?_
  obtain ⟨s7, es7, hf⟩ := pf_e hf
  refine c_ren es7 ?_
  refine x_aload_n C dX4_lend_15 0 rfl ?_
  refine cg4_0 C B t1 (flo C q447) fsm ep2 dX4_lend_16 ?_
  refine x_iload_n C dX4_lend_19 2 rfl ?_
  obtain ⟨h8, hf⟩ := pf_in hf
  obtain ⟨p9, ep9, hf⟩ := pf_b hf
  refine ca_ald5 C B t3 h8 ep9 dX4_lend_20 ?_
  refine x_dup C dX4_lend_21 rfl ?_
  obtain ⟨t10, hf⟩ := pf_ch hf
  refine cg5_3 C B t10 (fln B q424) fsm dX4_lend_22 ?_
  refine x_iload_n C dX4_lend_25 3 rfl ?_
  refine x_isub C dX4_lend_26 ?_
  refine cp5_3 C B t10 (fln B q424) fsm dX4_lend_27 ?_
  obtain ⟨s11, es11, hf⟩ := pf_e hf
  refine c_ren es11 ?_
  obtain rfl := Option.some.inj hf
  exact c_vret C hr hQ dX4_lend_30
theorem met_X4_lend {T : CT} {v : CD} {g : CG} {d : CD} {x0 : Nat} {x1 : Int32} {x2 : Int32} {x3 : Int32} {l : Launch} (hf : f_X4_lend g x0 x1 x2 x3 d = some v) : Met l yX4_lend (ws_ yX4_lend cX4_lend 4 none) (rmC 2 0 0) (va_Pc [.ref x0, .int x1, .int x2, .int x3] (CU T g d)) (Qc T none g v) 0 0 (cA T) :=
  c_met [.ref x0, .int x1, .int x2, .int x3] RX4 (by decide) rfl (Nat.le_of_ble_eq_true rfl) (fun K hl hR hr C B hQ => w_X4_lend_E _ C B hr hR hQ _ _ _ _ _ hf)
theorem k_X4_lend_X16 {K : KT} {T : CT} {c0 s0 c1 s1 dk : Nat} {cc : ByteArray} {nL pc : Nat} {L : List (Nat × Value)} {rest : List Value} {g : CG} {d : CD} {v : CD} {x0 : Nat} {x1 : Int32} {x2 : Int32} {x3 : Int32} (C : Kok K cc nL RX16) (B : CB K T) (hta : ht g x0 = 4) (dK : kR K = rmC dk c1 s1) (hd : 2 + 1 ≤ dk) (hcs : c0 + 0 ≤ c1 ∧ s0 + 0 ≤ s1) (hf : f_X4_lend g x0 x1 x2 x3 d = some v) (hW : (rest.map fun v => v.category).sum ≤ 8) (dd : decode cc pc = .ok (.invokevirtual 25, 3)) (kk2 : XJ K nL (Wc K T c0 s0 g v) (pc + 3) L (rest)) : XJ K nL (Wc K T c0 s0 g d) pc L (.int x3 :: .int x2 :: .int x1 :: .ref x0 :: rest) :=
  c_callV (rest := rest) (v := none) [.int x1, .int x2, .int x3] 3 rfl C B hta (by decide) (by decide) rfl dK hd (Nat.le_of_ble_eq_true rfl) hcs (lw_V q1503 q1089 q1090 q126 q1091) (by decide +kernel) (met_X4_lend hf) rfl hW dd kk2
def f_X16_live (g : CG) (x0 : Nat) (x1 : Nat) (x2 : Nat) (d : CD) : Option CD := if ht g x0 = 13 then if ht g x2 = 4 then (f_X4_lend g x2 (hi d x0 0) (hi d x0 1) (hi d x0 2) d).bind fun r3 => some r3 else none else none
set_option maxHeartbeats 4000000 in
theorem w_X16_live_E {K : KT} {T : CT} {τ : CD} (g : CG) (C : Kok K cX16_live 3 RX16) (B : CB K T) (hr : (kMe K).sig.returnType = none) (dK : kR K = rmC 3 0 0) (hQ : KQc K T none 0 0 g τ) (x0 : Nat) (x1 : Nat) (x2 : Nat) (d : CD) (hf : f_X16_live g x0 x1 x2 d = some τ) : XJ K 3 (Wc K T 0 0 g d) 0 [(0, .ref x0), (1, .ref x1), (2, .ref x2)] [] := by
  unfold f_X16_live at hf
  refine x_aload_n C dX16_live_0 2 rfl ?_
  refine x_aload_n C dX16_live_1 0 rfl ?_
  obtain ⟨t1, hf⟩ := pf_ch hf
  refine cg13_0 C B t1 (flo C q1454) fsm dX16_live_2 ?_
  refine x_aload_n C dX16_live_5 0 rfl ?_
  refine cg13_1 C B t1 (flo C q1455) fsm dX16_live_6 ?_
  refine x_aload_n C dX16_live_9 0 rfl ?_
  refine cg13_2 C B t1 (flo C q1456) fsm dX16_live_10 ?_
  obtain ⟨t2, hf⟩ := pf_ch hf
  obtain ⟨r3, er3, hf⟩ := pf_b hf
  refine k_X4_lend_X16 C B t2 dK (Nat.le_of_ble_eq_true rfl) cz er3 (Nat.le_of_ble_eq_true rfl) dX16_live_13 ?_
  obtain rfl := Option.some.inj hf
  exact c_vret C hr hQ dX16_live_16
theorem met_X16_live {T : CT} {v : CD} {g : CG} {d : CD} {x0 : Nat} {x1 : Nat} {x2 : Nat} {l : Launch} (hf : f_X16_live g x0 x1 x2 d = some v) : Met l yX16_live (ws_ yX16_live cX16_live 3 none) (rmC 3 0 0) (va_Pc [.ref x0, .ref x1, .ref x2] (CU T g d)) (Qc T none g v) 0 0 (cA T) :=
  c_met [.ref x0, .ref x1, .ref x2] RX16 (by decide) rfl (Nat.le_of_ble_eq_true rfl) (fun K hl hR hr C B hQ => w_X16_live_E _ C B hr hR hQ _ _ _ _ hf)
def f_X4_whyLend (g : CG) (d : CD) (x0 : Nat) (x1 : Int32) (x2 : Int32) (x3 : Int32) : Option Int32 := if ht g x0 = 4 then (hr g x0 0).bind fun p2 => if ht g p2 = 105 then if inb x1 (hn g p2) = true then (hr g p2 (Int32.toNatClampNeg x1)).bind fun p5 => if ht g p5 = 5 then (f_X5_isGone g d p5).bind fun r7 => if r7 = 0 then (if inb x2 (hn g p2) = true then (hr g p2 (Int32.toNatClampNeg x2)).bind fun p10 => if ht g p10 = 5 then (f_X5_isGone g d p10).bind fun r12 => if r12 = 0 then (if x3 ≤ (hi d p5 2) then (if x3 ≤ (hi d p10 3) then (some (0 : Int32)) else (some (3 : Int32))) else (some (2 : Int32))) else (some (1 : Int32)) else none else none) else (some (1 : Int32)) else none else none else none else none
set_option maxHeartbeats 4000000 in
theorem w_X4_whyLend_E {K : KT} {T : CT} {r : Int32} (g : CG) (d : CD) (C : Kok K cX4_whyLend 4 RX4) (B : CB K T) (hr : (kMe K).sig.returnType = (some .int)) (dK : kR K = rmC 3 0 0) (hQ : KQc K T (some (.int r)) 0 0 g d) (x0 : Nat) (x1 : Int32) (x2 : Int32) (x3 : Int32) (hf : f_X4_whyLend g d x0 x1 x2 x3 = some r) : XJ K 4 (Wc K T 0 0 g d) 0 [(0, .ref x0), (1, .int x1), (2, .int x2), (3, .int x3)] [] := by
  unfold f_X4_whyLend at hf
  refine x_aload_n C dX4_whyLend_0 0 rfl ?_
  obtain ⟨t1, hf⟩ := pf_ch hf
  obtain ⟨p2, ep2, hf⟩ := pf_b hf
  refine cg4_0 C B t1 (flo C q447) fsm ep2 dX4_whyLend_1 ?_
  refine x_iload_n C dX4_whyLend_4 1 rfl ?_
  obtain ⟨t3, hf⟩ := pf_ch hf
  obtain ⟨h4, hf⟩ := pf_in hf
  obtain ⟨p5, ep5, hf⟩ := pf_b hf
  refine ca_ald5 C B t3 h4 ep5 dX4_whyLend_5 ?_
  obtain ⟨t6, hf⟩ := pf_ch hf
  obtain ⟨r7, er7, hf⟩ := pf_b hf
  refine k_X5_isGone_X4 C B t6 dK (Nat.le_of_ble_eq_true rfl) cz er7 (Nat.le_of_ble_eq_true rfl) dX4_whyLend_6 ?_
  refine x_if_ne (tgt := 24) C dX4_whyLend_9 (by decide) (fun c8 => ?_) (fun c8 => ?_)
  · have hf := pf_f c8 hf
    refine x_iconst (1 : Int32) C dX4_whyLend_24 (by decide) ?_
    refine x_goto (tgt := 63) C dX4_whyLend_25 (by decide) ?_
    obtain rfl := Option.some.inj hf
    exact c_iret C hr hQ dX4_whyLend_63
  · have hf := pf_t c8 hf
    refine x_aload_n C dX4_whyLend_12 0 rfl ?_
    refine cg4_0 C B t1 (flo C q447) fsm ep2 dX4_whyLend_13 ?_
    refine x_iload_n C dX4_whyLend_16 2 rfl ?_
    obtain ⟨h9, hf⟩ := pf_in hf
    obtain ⟨p10, ep10, hf⟩ := pf_b hf
    refine ca_ald5 C B t3 h9 ep10 dX4_whyLend_17 ?_
    obtain ⟨t11, hf⟩ := pf_ch hf
    obtain ⟨r12, er12, hf⟩ := pf_b hf
    refine k_X5_isGone_X4 C B t11 dK (Nat.le_of_ble_eq_true rfl) cz er12 (Nat.le_of_ble_eq_true rfl) dX4_whyLend_18 ?_
    refine x_if_eq (tgt := 28) C dX4_whyLend_21 (by decide) (fun c13 => ?_) (fun c13 => ?_)
    · have hf := pf_t c13 hf
      refine x_aload_n C dX4_whyLend_28 0 rfl ?_
      refine cg4_0 C B t1 (flo C q447) fsm ep2 dX4_whyLend_29 ?_
      refine x_iload_n C dX4_whyLend_32 1 rfl ?_
      refine ca_ald5 C B t3 h4 ep5 dX4_whyLend_33 ?_
      refine cg5_2 C B t6 (fln B q420) fsm dX4_whyLend_34 ?_
      refine x_iload_n C dX4_whyLend_37 3 rfl ?_
      refine x_icmp_ge (tgt := 45) C dX4_whyLend_38 (by decide) (fun c14 => ?_) (fun c14 => ?_)
      · have hf := pf_t c14 hf
        refine x_aload_n C dX4_whyLend_45 0 rfl ?_
        refine cg4_0 C B t1 (flo C q447) fsm ep2 dX4_whyLend_46 ?_
        refine x_iload_n C dX4_whyLend_49 2 rfl ?_
        refine ca_ald5 C B t3 h9 ep10 dX4_whyLend_50 ?_
        refine cg5_3 C B t11 (fln B q424) fsm dX4_whyLend_51 ?_
        refine x_iload_n C dX4_whyLend_54 3 rfl ?_
        refine x_icmp_ge (tgt := 62) C dX4_whyLend_55 (by decide) (fun c15 => ?_) (fun c15 => ?_)
        · have hf := pf_t c15 hf
          refine x_iconst (0 : Int32) C dX4_whyLend_62 (by decide) ?_
          obtain rfl := Option.some.inj hf
          exact c_iret C hr hQ dX4_whyLend_63
        · have hf := pf_f c15 hf
          refine x_iconst (3 : Int32) C dX4_whyLend_58 (by decide) ?_
          refine x_goto (tgt := 63) C dX4_whyLend_59 (by decide) ?_
          obtain rfl := Option.some.inj hf
          exact c_iret C hr hQ dX4_whyLend_63
      · have hf := pf_f c14 hf
        refine x_iconst (2 : Int32) C dX4_whyLend_41 (by decide) ?_
        refine x_goto (tgt := 63) C dX4_whyLend_42 (by decide) ?_
        obtain rfl := Option.some.inj hf
        exact c_iret C hr hQ dX4_whyLend_63
    · have hf := pf_f c13 hf
      refine x_iconst (1 : Int32) C dX4_whyLend_24 (by decide) ?_
      refine x_goto (tgt := 63) C dX4_whyLend_25 (by decide) ?_
      obtain rfl := Option.some.inj hf
      exact c_iret C hr hQ dX4_whyLend_63
theorem met_X4_whyLend {T : CT} {v : Int32} {g : CG} {d : CD} {x0 : Nat} {x1 : Int32} {x2 : Int32} {x3 : Int32} {l : Launch} (hf : f_X4_whyLend g d x0 x1 x2 x3 = some v) : Met l yX4_whyLend (ws_ yX4_whyLend cX4_whyLend 4 (some .int)) (rmC 3 0 0) (va_Pc [.ref x0, .int x1, .int x2, .int x3] (CU T g d)) (Qc T (some (.int v)) g d) 0 0 (cA T) :=
  c_met [.ref x0, .int x1, .int x2, .int x3] RX4 (by decide) rfl (Nat.le_of_ble_eq_true rfl) (fun K hl hR hr C B hQ => w_X4_whyLend_E _ _ C B hr hR hQ _ _ _ _ hf)
theorem k_X4_whyLend_X16 {K : KT} {T : CT} {c0 s0 c1 s1 dk : Nat} {cc : ByteArray} {nL pc : Nat} {L : List (Nat × Value)} {rest : List Value} {g : CG} {d : CD} {v : Int32} {x0 : Nat} {x1 : Int32} {x2 : Int32} {x3 : Int32} (C : Kok K cc nL RX16) (B : CB K T) (hta : ht g x0 = 4) (dK : kR K = rmC dk c1 s1) (hd : 3 + 1 ≤ dk) (hcs : c0 + 0 ≤ c1 ∧ s0 + 0 ≤ s1) (hf : f_X4_whyLend g d x0 x1 x2 x3 = some v) (hW : (rest.map fun v => v.category).sum ≤ 8) (dd : decode cc pc = .ok (.invokevirtual 19, 3)) (kk2 : XJ K nL (Wc K T c0 s0 g d) (pc + 3) L ((.int v) :: rest)) : XJ K nL (Wc K T c0 s0 g d) pc L (.int x3 :: .int x2 :: .int x1 :: .ref x0 :: rest) :=
  c_callV (rest := rest) (v := (some (.int v))) [.int x1, .int x2, .int x3] 3 rfl C B hta (by decide) (by decide) rfl dK hd (Nat.le_of_ble_eq_true rfl) hcs (lw_V q1480 q1085 q1086 q126 q1087) (by decide +kernel) (met_X4_whyLend hf) rfl hW dd kk2
def f_X16_why (g : CG) (d : CD) (x0 : Nat) (x1 : Nat) (x2 : Nat) : Option Int32 := if ht g x0 = 13 then if (hi d x0 0) = (hi d x0 1) then (some (39 : Int32)) else (if ht g x2 = 4 then (f_X4_whyLend g d x2 (hi d x0 0) (hi d x0 1) (hi d x0 2)).bind fun r4 => if r4 = 0 then (some (0 : Int32)) else ((f_X4_whyLend g d x2 (hi d x0 0) (hi d x0 1) (hi d x0 2)).bind fun r6 => some ((30 : Int32) + r6)) else none) else none
set_option maxHeartbeats 4000000 in
theorem w_X16_why_E {K : KT} {T : CT} {r : Int32} (g : CG) (d : CD) (C : Kok K cX16_why 3 RX16) (B : CB K T) (hr : (kMe K).sig.returnType = (some .int)) (dK : kR K = rmC 4 0 0) (hQ : KQc K T (some (.int r)) 0 0 g d) (x0 : Nat) (x1 : Nat) (x2 : Nat) (hf : f_X16_why g d x0 x1 x2 = some r) : XJ K 3 (Wc K T 0 0 g d) 0 [(0, .ref x0), (1, .ref x1), (2, .ref x2)] [] := by
  unfold f_X16_why at hf
  refine x_aload_n C dX16_why_0 0 rfl ?_
  obtain ⟨t1, hf⟩ := pf_ch hf
  refine cg13_0 C B t1 (flo C q1454) fsm dX16_why_1 ?_
  refine x_aload_n C dX16_why_4 0 rfl ?_
  refine cg13_1 C B t1 (flo C q1455) fsm dX16_why_5 ?_
  refine x_icmp_ne (tgt := 14) C dX16_why_8 (by decide) (fun c2 => ?_) (fun c2 => ?_)
  · have hf := pf_f c2 hf
    refine x_aload_n C dX16_why_14 2 rfl ?_
    refine x_aload_n C dX16_why_15 0 rfl ?_
    refine cg13_0 C B t1 (flo C q1454) fsm dX16_why_16 ?_
    refine x_aload_n C dX16_why_19 0 rfl ?_
    refine cg13_1 C B t1 (flo C q1455) fsm dX16_why_20 ?_
    refine x_aload_n C dX16_why_23 0 rfl ?_
    refine cg13_2 C B t1 (flo C q1456) fsm dX16_why_24 ?_
    obtain ⟨t3, hf⟩ := pf_ch hf
    obtain ⟨r4, er4, hf⟩ := pf_b hf
    refine k_X4_whyLend_X16 C B t3 dK (Nat.le_of_ble_eq_true rfl) cz er4 (Nat.le_of_ble_eq_true rfl) dX16_why_27 ?_
    refine x_if_ne (tgt := 37) C dX16_why_30 (by decide) (fun c5 => ?_) (fun c5 => ?_)
    · have hf := pf_f c5 hf
      refine x_bipush (30 : Int32) C dX16_why_37 (by decide) ?_
      refine x_aload_n C dX16_why_39 2 rfl ?_
      refine x_aload_n C dX16_why_40 0 rfl ?_
      refine cg13_0 C B t1 (flo C q1454) fsm dX16_why_41 ?_
      refine x_aload_n C dX16_why_44 0 rfl ?_
      refine cg13_1 C B t1 (flo C q1455) fsm dX16_why_45 ?_
      refine x_aload_n C dX16_why_48 0 rfl ?_
      refine cg13_2 C B t1 (flo C q1456) fsm dX16_why_49 ?_
      obtain ⟨r6, er6, hf⟩ := pf_b hf
      refine k_X4_whyLend_X16 C B t3 dK (Nat.le_of_ble_eq_true rfl) cz er6 (Nat.le_of_ble_eq_true rfl) dX16_why_52 ?_
      refine x_iadd C dX16_why_55 ?_
      obtain rfl := Option.some.inj hf
      exact c_iret C hr hQ dX16_why_56
    · have hf := pf_t c5 hf
      refine x_iconst (0 : Int32) C dX16_why_33 (by decide) ?_
      refine x_goto (tgt := 56) C dX16_why_34 (by decide) ?_
      obtain rfl := Option.some.inj hf
      exact c_iret C hr hQ dX16_why_56
  · have hf := pf_t c2 hf
    refine x_bipush (39 : Int32) C dX16_why_11 (by decide) ?_
    obtain rfl := Option.some.inj hf
    exact c_iret C hr hQ dX16_why_13
theorem met_X16_why {T : CT} {v : Int32} {g : CG} {d : CD} {x0 : Nat} {x1 : Nat} {x2 : Nat} {l : Launch} (hf : f_X16_why g d x0 x1 x2 = some v) : Met l yX16_why (ws_ yX16_why cX16_why 3 (some .int)) (rmC 4 0 0) (va_Pc [.ref x0, .ref x1, .ref x2] (CU T g d)) (Qc T (some (.int v)) g d) 0 0 (cA T) :=
  c_met [.ref x0, .ref x1, .ref x2] RX16 (by decide) rfl (Nat.le_of_ble_eq_true rfl) (fun K hl hR hr C B hQ => w_X16_why_E _ _ C B hr hR hQ _ _ _ hf)
def f_X1_all (g : CG) (d : CD) (x0 : Nat) : Option Int32 := if ht g x0 = 1 then (hr g x0 6).bind fun p2 => if ht g p2 = 3 then some (((1 : Int32) <<< ((hi d p2 21) &&& 31)) - (1 : Int32)) else none else none
set_option maxHeartbeats 4000000 in
theorem w_X1_all_E {K : KT} {T : CT} {r : Int32} (g : CG) (d : CD) (C : Kok K cX1_all 1 RX1) (B : CB K T) (hr : (kMe K).sig.returnType = (some .int)) (dK : kR K = rmC 2 0 0) (hQ : KQc K T (some (.int r)) 0 0 g d) (x0 : Nat) (hf : f_X1_all g d x0 = some r) : XJ K 1 (Wc K T 0 0 g d) 0 [(0, .ref x0)] [] := by
  unfold f_X1_all at hf
  refine x_iconst (1 : Int32) C dX1_all_0 (by decide) ?_
  refine x_aload_n C dX1_all_1 0 rfl ?_
  obtain ⟨t1, hf⟩ := pf_ch hf
  obtain ⟨p2, ep2, hf⟩ := pf_b hf
  refine cg1_6 C B t1 (flo C q621) fsm ep2 dX1_all_2 ?_
  obtain ⟨t3, hf⟩ := pf_ch hf
  refine cg3_21 C B t3 (fln B q341) fsm dX1_all_5 ?_
  refine x_ishl C dX1_all_8 ?_
  refine x_iconst (1 : Int32) C dX1_all_9 (by decide) ?_
  refine x_isub C dX1_all_10 ?_
  obtain rfl := Option.some.inj hf
  exact c_iret C hr hQ dX1_all_11
theorem met_X1_all {T : CT} {v : Int32} {g : CG} {d : CD} {x0 : Nat} {l : Launch} (hf : f_X1_all g d x0 = some v) : Met l yX1_all (ws_ yX1_all cX1_all 1 (some .int)) (rmC 2 0 0) (va_Pc [.ref x0] (CU T g d)) (Qc T (some (.int v)) g d) 0 0 (cA T) :=
  c_met [.ref x0] RX1 (by decide) rfl (Nat.le_of_ble_eq_true rfl) (fun K hl hR hr C B hQ => w_X1_all_E _ _ C B hr hR hQ _ hf)
def f_X3_comes_L14 (n : Nat) (g : CG) (d : CD) : Nat → Int32 → Nat → Int32 → Int32 → Option Int32
  | 0, _, _, _, _ => none
  | m + 1, x2, x3, x4, x5 => if x4 ≤ x5 then (some (0 : Int32)) else (if ht g x3 = 100 then if inb x5 (hn g x3) = true then ev (hi d x3 (Int32.toNatClampNeg x5)) fun v4 => if v4 = x2 then (some (1 : Int32)) else (f_X3_comes_L14 n g d m x2 x3 x4 (x5 + (1 : Int32))) else none else none)
set_option maxHeartbeats 4000000 in
theorem w_X3_comes_14 {K : KT} {T : CT} {r : Int32} (n : Nat) (g : CG) (d : CD) (C : Kok K cX3_comes 7 RX3) (B : CB K T) (hr : (kMe K).sig.returnType = (some .boolean)) (dK : kR K = rmC 2 0 0) (hQ : KQc K T (some (.int r)) 0 0 g d) : ∀ (m : Nat) (x2 : Int32) (x3 : Nat) (x4 : Int32) (x5 : Int32) (hf : f_X3_comes_L14 n g d m x2 x3 x4 x5 = some r), XJ K 7 (Wc K T 0 0 g d) 14 [(2, .int x2), (3, .ref x3), (4, .int x4), (5, .int x5)] [] := by
  intro m
  induction m with
  | zero => intro x2 x3 x4 x5 hf; cases hf
  | succ m ih =>
    intro x2 x3 x4 x5 hf
    rw [f_X3_comes_L14] at hf
    refine x_iload C dX3_comes_14 3 rfl ?_
    refine x_iload C dX3_comes_16 2 rfl ?_
    refine x_icmp_ge (tgt := 41) C dX3_comes_18 (by decide) (fun c1 => ?_) (fun c1 => ?_)
    · have hf := pf_t c1 hf
      refine x_iconst (0 : Int32) C dX3_comes_41 (by decide) ?_
      obtain rfl := Option.some.inj hf
      exact c_zret C hr (Or.inl rfl) hQ dX3_comes_42
    · have hf := pf_f c1 hf
      refine x_aload_n C dX3_comes_21 1 rfl ?_
      refine x_iload C dX3_comes_22 3 rfl ?_
      obtain ⟨t2, hf⟩ := pf_ch hf
      obtain ⟨h3, hf⟩ := pf_in hf
      refine ca_ild C B t2 h3 dX3_comes_24 ?_
      obtain ⟨v4, ev4, hf⟩ := pf_e hf
      refine x_topir ev4 ?_
      refine x_istore (L' := [(2, .int x2), (3, .ref x3), (4, .int x4), (5, .int x5), (6, .int v4)]) C dX3_comes_25 (Nat.le_of_ble_eq_true rfl) [1, 2, 3, 4, 0] rfl ?_
      refine x_iload C dX3_comes_27 4 rfl ?_
      refine x_iload_n C dX3_comes_29 0 rfl ?_
      refine x_icmp_ne (tgt := 35) C dX3_comes_30 (by decide) (fun c5 => ?_) (fun c5 => ?_)
      · have hf := pf_f c5 hf
        refine x_inc (c := (1 : Int32)) (L' := [(2, .int x2), (3, .ref x3), (4, .int x4), (5, .int (x5 + (1 : Int32)))]) C dX3_comes_35 3 rfl (by decide) (Nat.le_of_ble_eq_true rfl) [1, 2, 3, 0] rfl ?_
        refine x_goto (tgt := 14) C dX3_comes_38 (by decide) ?_
        exact ih x2 x3 x4 (x5 + (1 : Int32)) hf
      · have hf := pf_t c5 hf
        refine x_iconst (1 : Int32) C dX3_comes_33 (by decide) ?_
        obtain rfl := Option.some.inj hf
        exact c_zret C hr (Or.inr rfl) hQ dX3_comes_34
theorem bz_X3_comes_14 {r : Int32} {n : Nat} {g : CG} {d : CD} : ∀ (m : Nat) (x2 : Int32) (x3 : Nat) (x4 : Int32) (x5 : Int32) (hf : f_X3_comes_L14 n g d m x2 x3 x4 x5 = some r), r = 0 ∨ r = 1 := by
  intro m
  induction m with
  | zero => intro x2 x3 x4 x5 hf; cases hf
  | succ m ih =>
    intro x2 x3 x4 x5 hf
    rw [f_X3_comes_L14] at hf
    by_cases c1 : x4 ≤ x5
    · have hf := pf_t c1 hf
      obtain rfl := Option.some.inj hf
      exact (Or.inl rfl)
    · have hf := pf_f c1 hf
      obtain ⟨t2, hf⟩ := pf_ch hf
      obtain ⟨h3, hf⟩ := pf_in hf
      obtain ⟨v4, ev4, hf⟩ := pf_e hf
      by_cases c5 : v4 = x2
      · have hf := pf_t c5 hf
        obtain rfl := Option.some.inj hf
        exact (Or.inr rfl)
      · have hf := pf_f c5 hf
        exact ih x2 x3 x4 (x5 + (1 : Int32)) hf
def f_X3_comes (n : Nat) (g : CG) (d : CD) (x0 : Nat) (x1 : Int32) (x2 : Int32) : Option Int32 := if ht g x0 = 3 then (hr g x0 15).bind fun p2 => if ht g p2 = 108 then if inb x1 (hn g p2) = true then (hr g p2 (Int32.toNatClampNeg x1)).bind fun p5 => if ht g p5 = 100 then ev (Int32.ofNat (hn g p5)) fun v7 => f_X3_comes_L14 n g d n x2 p5 v7 (0 : Int32) else none else none else none else none
set_option maxHeartbeats 4000000 in
theorem w_X3_comes_E {K : KT} {T : CT} {r : Int32} (n : Nat) (g : CG) (d : CD) (C : Kok K cX3_comes 7 RX3) (B : CB K T) (hr : (kMe K).sig.returnType = (some .boolean)) (dK : kR K = rmC 2 0 0) (hQ : KQc K T (some (.int r)) 0 0 g d) (x0 : Nat) (x1 : Int32) (x2 : Int32) (hf : f_X3_comes n g d x0 x1 x2 = some r) : XJ K 7 (Wc K T 0 0 g d) 0 [(0, .ref x0), (1, .int x1), (2, .int x2)] [] := by
  unfold f_X3_comes at hf
  refine x_aload_n C dX3_comes_0 0 rfl ?_
  obtain ⟨t1, hf⟩ := pf_ch hf
  obtain ⟨p2, ep2, hf⟩ := pf_b hf
  refine cg3_15 C B t1 (flo C q317) fsm ep2 dX3_comes_1 ?_
  refine x_iload_n C dX3_comes_4 1 rfl ?_
  obtain ⟨t3, hf⟩ := pf_ch hf
  obtain ⟨h4, hf⟩ := pf_in hf
  obtain ⟨p5, ep5, hf⟩ := pf_b hf
  refine ca_ald8 C B t3 h4 ep5 dX3_comes_5 ?_
  refine x_astore_n (L' := [(2, .int x2), (3, .ref p5)]) C dX3_comes_6 (Nat.le_of_ble_eq_true rfl) [3, 0] rfl ?_
  refine x_aload_n C dX3_comes_7 1 rfl ?_
  obtain ⟨t6, hf⟩ := pf_ch hf
  refine ca_len C B t6 (Or.inl rfl) rfl dX3_comes_8 ?_
  obtain ⟨v7, ev7, hf⟩ := pf_e hf
  refine x_topir ev7 ?_
  refine x_istore (L' := [(2, .int x2), (3, .ref p5), (4, .int v7)]) C dX3_comes_9 (Nat.le_of_ble_eq_true rfl) [1, 2, 0] rfl ?_
  refine x_iconst (0 : Int32) C dX3_comes_11 (by decide) ?_
  refine x_istore (L' := [(2, .int x2), (3, .ref p5), (4, .int v7), (5, .int (0 : Int32))]) C dX3_comes_12 (Nat.le_of_ble_eq_true rfl) [1, 2, 3, 0] rfl ?_
  exact w_X3_comes_14 n g d C B hr dK hQ n x2 p5 v7 (0 : Int32) hf
theorem bz_X3_comes_E {r : Int32} {n : Nat} {g : CG} {d : CD} {x0 : Nat} {x1 : Int32} {x2 : Int32} (hf : f_X3_comes n g d x0 x1 x2 = some r) : r = 0 ∨ r = 1 := by
  unfold f_X3_comes at hf
  obtain ⟨t1, hf⟩ := pf_ch hf
  obtain ⟨p2, ep2, hf⟩ := pf_b hf
  obtain ⟨t3, hf⟩ := pf_ch hf
  obtain ⟨h4, hf⟩ := pf_in hf
  obtain ⟨p5, ep5, hf⟩ := pf_b hf
  obtain ⟨t6, hf⟩ := pf_ch hf
  obtain ⟨v7, ev7, hf⟩ := pf_e hf
  exact bz_X3_comes_14 n x2 p5 v7 (0 : Int32) hf
theorem met_X3_comes {T : CT} {v : Int32} {n : Nat} {g : CG} {d : CD} {x0 : Nat} {x1 : Int32} {x2 : Int32} {l : Launch} (hf : f_X3_comes n g d x0 x1 x2 = some v) : Met l yX3_comes (ws_ yX3_comes cX3_comes 7 (some .boolean)) (rmC 2 0 0) (va_Pc [.ref x0, .int x1, .int x2] (CU T g d)) (Qc T (some (.int v)) g d) 0 0 (cA T) :=
  c_met [.ref x0, .int x1, .int x2] RX3 (by decide) rfl (Nat.le_of_ble_eq_true rfl) (fun K hl hR hr C B hQ => w_X3_comes_E _ _ _ C B hr hR hQ _ _ _ hf)
