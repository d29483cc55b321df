set_option maxRecDepth 100000
def f_X1_said_L18 (n : Nat) : Nat → Nat → Int32 → Int32 → Int32 → CG → CD → Option (SR Int32)
  | 0, _, _, _, _, _, _ => none
  | m + 1, x0, x1, x2, x3, g, d => if ht g x0 = 1 then (hr g x0 6).bind fun p2 => if ht g p2 = 3 then if (hi d p2 20) ≤ x3 then (if x1 = (-1 : Int32) then (some (x2, g, d, 0, 0)) else (some ((-1 : Int32), g, d, 0, 0))) else ((hr g x0 39).bind fun p6 => (f_is n g d 64 p6 x0 x3).bind fun r7 => if r7 = 0 then (f_X1_said_L18 n m x0 x1 x2 (x3 + (1 : Int32)) g d) else (if x2 = x1 then (some (x3, g, d, 0, 0)) else (f_X1_said_L18 n m x0 x1 (x2 + (1 : Int32)) (x3 + (1 : Int32)) g d))) else none else none
set_option maxHeartbeats 4000000 in
theorem w_X1_said_18 {K : KT} {T : CT} {r : Int32} {g9 : CG} {d9 : CD} {c1 s1 : Nat} (n : Nat) (C : Kok K cX1_said 4 RX1) (B : CB K T) (hrt : (kMe K).sig.returnType = (some .int)) (dK : kR K = rmC 73 c1 s1) (hQ : KQc K T (some (.int r)) c1 s1 g9 d9) : ∀ (m : Nat) (x0 : Nat) (x1 : Int32) (x2 : Int32) (x3 : Int32) (g : CG) (d : CD) (c0 s0 k m9 : Nat) (hc : c1 = c0 + k) (hs : s1 = s0 + m9) (hf : f_X1_said_L18 n m x0 x1 x2 x3 g d = some (r, g9, d9, k, m9)), XJ K 4 (Wc K T c0 s0 g d) 18 [(0, .ref x0), (1, .int x1), (2, .int x2), (3, .int x3)] [] := by
  intro m
  induction m with
  | zero => intro x0 x1 x2 x3 g d c0 s0 k m9 hc hs hf; cases hf
  | succ m ih =>
    intro x0 x1 x2 x3 g d c0 s0 k m9 hc hs hf
    rw [f_X1_said_L18] at hf
    refine x_iload_n C dX1_said_18 3 rfl ?_
    refine x_aload_n C dX1_said_19 0 rfl ?_
    obtain ⟨t1, hf⟩ := pf_ch hf
    obtain ⟨p2, ep2, hf⟩ := pf_b hf
    refine cg1_6 C B t1 (flo C q621) fsm ep2 dX1_said_20 ?_
    obtain ⟨t3, hf⟩ := pf_ch hf
    refine cg3_20 C B t3 (fln B q337) fsm dX1_said_23 ?_
    refine x_icmp_ge (tgt := 62) C dX1_said_26 (by decide) (fun w4 => ?_) (fun w4 => ?_)
    · have hf := pf_t w4 hf
      refine x_iload_n C dX1_said_62 1 rfl ?_
      refine x_iconst (-1 : Int32) C dX1_said_63 (by decide) ?_
      refine x_icmp_ne (tgt := 71) C dX1_said_64 (by decide) (fun w5 => ?_) (fun w5 => ?_)
      · have hf := pf_f w5 hf
        refine x_iconst (-1 : Int32) C dX1_said_71 (by decide) ?_
        obtain ⟨rfl, rfl, rfl, rfl, rfl⟩ := sr_inj hf
        refine c_cs (c0 := c1) (s0 := s1) (by omega) (by omega) ?_
        exact c_iret C hrt hQ dX1_said_72
      · have hf := pf_t w5 hf
        refine x_iload_n C dX1_said_67 2 rfl ?_
        refine x_goto (tgt := 72) C dX1_said_68 (by decide) ?_
        obtain ⟨rfl, rfl, rfl, rfl, rfl⟩ := sr_inj hf
        refine c_cs (c0 := c1) (s0 := s1) (by omega) (by omega) ?_
        exact c_iret C hrt hQ dX1_said_72
    · have hf := pf_f w4 hf
      refine x_aload_n C dX1_said_29 0 rfl ?_
      obtain ⟨p6, ep6, hf⟩ := pf_b hf
      refine cg1_39 C B t1 (flo C q658) fsm ep6 dX1_said_30 ?_
      refine x_aload_n C dX1_said_33 0 rfl ?_
      refine x_iload_n C dX1_said_34 3 rfl ?_
      obtain ⟨r7, er7, hf⟩ := pf_b hf
      refine k_is (isM _ _ n _ _ 64) C B q1633 dK (Nat.le_of_ble_eq_true rfl) (by omega) er7 (Nat.le_of_ble_eq_true rfl) dX1_said_35 ?_
      refine x_if_ne (tgt := 46) C dX1_said_40 (by decide) (fun w8 => ?_) (fun w8 => ?_)
      · have hf := pf_f w8 hf
        refine x_iload_n C dX1_said_46 2 rfl ?_
        refine x_iload_n C dX1_said_47 1 rfl ?_
        refine x_icmp_ne (tgt := 53) C dX1_said_48 (by decide) (fun w9 => ?_) (fun w9 => ?_)
        · have hf := pf_f w9 hf
          refine x_inc (c := (1 : Int32)) (L' := [(0, .ref x0), (1, .int x1), (2, .int (x2 + (1 : Int32))), (3, .int x3)]) C dX1_said_53 2 rfl (by decide) (Nat.le_of_ble_eq_true rfl) [1, 2, 0, 3] rfl ?_
          refine x_inc (c := (1 : Int32)) (L' := [(0, .ref x0), (1, .int x1), (2, .int (x2 + (1 : Int32))), (3, .int (x3 + (1 : Int32)))]) C dX1_said_56 3 rfl (by decide) (Nat.le_of_ble_eq_true rfl) [1, 2, 3, 0] rfl ?_
          refine x_goto (tgt := 18) C dX1_said_59 (by decide) ?_
          exact ih x0 x1 (x2 + (1 : Int32)) (x3 + (1 : Int32)) _ _ _ _ _ _ (by omega) (by omega) hf
        · have hf := pf_t w9 hf
          refine x_iload_n C dX1_said_51 3 rfl ?_
          obtain ⟨rfl, rfl, rfl, rfl, rfl⟩ := sr_inj hf
          refine c_cs (c0 := c1) (s0 := s1) (by omega) (by omega) ?_
          exact c_iret C hrt hQ dX1_said_52
      · have hf := pf_t w8 hf
        refine x_goto (tgt := 56) C dX1_said_43 (by decide) ?_
        refine x_inc (c := (1 : Int32)) (L' := [(0, .ref x0), (1, .int x1), (2, .int x2), (3, .int (x3 + (1 : Int32)))]) C dX1_said_56 3 rfl (by decide) (Nat.le_of_ble_eq_true rfl) [1, 2, 3, 0] rfl ?_
        refine x_goto (tgt := 18) C dX1_said_59 (by decide) ?_
        exact ih x0 x1 x2 (x3 + (1 : Int32)) _ _ _ _ _ _ (by omega) (by omega) hf
def f_X1_said (n : Nat) (x0 : Nat) (x1 : Int32) (g : CG) (d : CD) : Option (SR Int32) := if ht g x0 = 1 then optc (hr g x0 39) (some ((-1 : Int32), g, d, 0, 0)) (fun p2 => if (-1 : Int32) ≤ x1 then (f_X1_said_L18 n n x0 x1 (0 : Int32) (0 : Int32) g d) else (some ((-1 : Int32), g, d, 0, 0))) else none
set_option maxHeartbeats 4000000 in
theorem w_X1_said_E {K : KT} {T : CT} {r : Int32} {g9 : CG} {d9 : CD} {c1 s1 : Nat} (n : Nat) (C : Kok K cX1_said 4 RX1) (B : CB K T) (hrt : (kMe K).sig.returnType = (some .int)) (dK : kR K = rmC 73 c1 s1) (hQ : KQc K T (some (.int r)) c1 s1 g9 d9) (x0 : Nat) (x1 : Int32) (g : CG) (d : CD) (c0 s0 k m9 : Nat) (hc : c1 = c0 + k) (hs : s1 = s0 + m9) (hf : f_X1_said n x0 x1 g d = some (r, g9, d9, k, m9)) : XJ K 4 (Wc K T c0 s0 g d) 0 [(0, .ref x0), (1, .int x1)] [] := by
  unfold f_X1_said at hf
  refine x_aload_n C dX1_said_0 0 rfl ?_
  obtain ⟨t1, hf⟩ := pf_ch hf
  rcases ep2 : hr g x0 39 with _ | p2
  · have hf := pf_on ep2 hf
    refine cgn1_39 C B t1 (flo C q658) fsm ep2 dX1_said_1 ?_
    refine x_ifnullN (tgt := 12) C dX1_said_4 (by decide) ?_
    refine x_iconst (-1 : Int32) C dX1_said_12 (by decide) ?_
    obtain ⟨rfl, rfl, rfl, rfl, rfl⟩ := sr_inj hf
    refine c_cs (c0 := c1) (s0 := s1) (by omega) (by omega) ?_
    exact c_iret C hrt hQ dX1_said_13
  · have hf := pf_os ep2 hf
    refine cg1_39 C B t1 (flo C q658) fsm ep2 dX1_said_1 ?_
    refine x_ifnull C dX1_said_4 ?_
    refine x_iload_n C dX1_said_7 1 rfl ?_
    refine x_iconst (-1 : Int32) C dX1_said_8 (by decide) ?_
    refine x_icmp_ge (tgt := 14) C dX1_said_9 (by decide) (fun w3 => ?_) (fun w3 => ?_)
    · have hf := pf_t w3 hf
      refine x_iconst (0 : Int32) C dX1_said_14 (by decide) ?_
      refine x_istore_n (L' := [(0, .ref x0), (1, .int x1), (2, .int (0 : Int32))]) C dX1_said_15 (Nat.le_of_ble_eq_true rfl) [1, 2, 0] rfl ?_
      refine x_iconst (0 : Int32) C dX1_said_16 (by decide) ?_
      refine x_istore_n (L' := [(0, .ref x0), (1, .int x1), (2, .int (0 : Int32)), (3, .int (0 : Int32))]) C dX1_said_17 (Nat.le_of_ble_eq_true rfl) [1, 2, 3, 0] rfl ?_
      exact w_X1_said_18 n C B hrt dK hQ n x0 x1 (0 : Int32) (0 : Int32) _ _ _ _ _ _ (by omega) (by omega) hf
    · have hf := pf_f w3 hf
      refine x_iconst (-1 : Int32) C dX1_said_12 (by decide) ?_
      obtain ⟨rfl, rfl, rfl, rfl, rfl⟩ := sr_inj hf
      refine c_cs (c0 := c1) (s0 := s1) (by omega) (by omega) ?_
      exact c_iret C hrt hQ dX1_said_13
theorem met_X1_said {T : CT} {v : (SR Int32)} {n : Nat} {g : CG} {d : CD} {x0 : Nat} {x1 : Int32} {l : Launch} (hf : f_X1_said n x0 x1 g d = some v) : Met l yX1_said (ws_ yX1_said cX1_said 4 (some .int)) (rmC 73 v.2.2.2.1 v.2.2.2.2) (va_Pc [.ref x0, .int x1] (CU T g d)) (Qc T (some (.int v.1)) v.2.1 v.2.2.1) v.2.2.2.1 v.2.2.2.2 (cA T) :=
  c_metS [.ref x0, .int x1] RX1 (by decide) rfl (Nat.le_of_ble_eq_true rfl) (fun K hl hR hrt hnm C B hQ => w_X1_said_E n C B hrt hR hQ _ _ _ _ 0 0 _ _ (Nat.zero_add _).symm (Nat.zero_add _).symm hf)
