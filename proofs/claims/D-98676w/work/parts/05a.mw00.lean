set_option maxRecDepth 100000
def f_thrown (σ : MS) : Int32 := gi σ 0
set_option maxHeartbeats 4000000 in
theorem w_thrown_E {K : KT} {M : MT} {r : Int32} (σ : MS) (C : Kok K cX10_thrown 1 RX10) (B : MB K M) (hr : (kMe K).sig.returnType = some .int) (dK : kR K = rmD 1) (hQ : KQm K M (some (.int r)) σ)  (hf : f_thrown σ = r) : XJ K 1 (Wm K M σ) 0 [(0, .ref (mO M))] [] := by
  unfold f_thrown at hf
  refine x_aload_n C dX10_thrown_0 0 rfl ?_
  refine mg_0 C B dX10_thrown_1 ?_
  subst hf
  exact m_iret C hr hQ dX10_thrown_4
theorem met_thrown {M : MT} {v : Int32} {σ : MS} {l : Launch} (hc : (mCl M)[mCi M]? = some (RX10, TX10, 61)) (hf : f_thrown σ = v) : Met l yX10_thrown (ws_ yX10_thrown cX10_thrown 1 (some .int)) (rmD 1) (va_Pc [.ref (mO M)] (MU M σ)) (Qm M (some (.int v)) σ) 0 0 (mAd M) :=
  m_met [.ref (mO M)] (by decide) rfl (Nat.le_of_ble_eq_true rfl) hc (fun K hl hR hr C B hQ => w_thrown_E _ C B hr hR hQ hf)
def f_come_3 (n : Nat) : Nat → Int32 → Int32 → MS → Option MS
  | 0, _, _, _ => none
  | m + 1, x1, x2, σ => if x2 < 0 then (some σ) else (if inb (gi σ 2) 940 = true then ev (sa σ 1 (Int32.toNatClampNeg (gi σ 2)) ((j_ushr x1 x2) &&& (255 : Int32))) fun s3 => ev (si s3 2 ((gi s3 2) + (1 : Int32))) fun s4 => f_come_3 n m x1 (x2 + (-8 : Int32)) s4 else none)
set_option maxHeartbeats 4000000 in
theorem w_come_3 {K : KT} {M : MT} {τ : MS} (n : Nat) (C : Kok K cX10_come 3 RX10) (B : MB K M) (hr : (kMe K).sig.returnType = none) (dK : kR K = rmD 1) (hQ : KQm K M none τ) : ∀ (m : Nat) (x1 : Int32) (x2 : Int32) (σ : MS) (hf : f_come_3 n m x1 x2 σ = some τ), XJ K 3 (Wm K M σ) 3 [(0, .ref (mO M)), (1, .int x1), (2, .int x2)] [] := by
  intro m
  induction m with
  | zero => intro x1 x2 σ hf; cases hf
  | succ m ih =>
    intro x1 x2 σ hf
    rw [f_come_3] at hf
    refine x_iload_n C dX10_come_3 2 rfl ?_
    refine x_if_lt (tgt := 39) C dX10_come_4 (by decide) (fun c1 => ?_) (fun c1 => ?_)
    · have hf := pf_t c1 hf
      obtain rfl := Option.some.inj hf
      exact m_vret C hr hQ dX10_come_39
    · have hf := pf_f c1 hf
      refine x_aload_n C dX10_come_7 0 rfl ?_
      refine mg_1 C B dX10_come_8 ?_
      refine x_aload_n C dX10_come_11 0 rfl ?_
      refine mg_2 C B dX10_come_12 ?_
      refine x_iload_n C dX10_come_15 1 rfl ?_
      refine x_iload_n C dX10_come_16 2 rfl ?_
      refine x_iushr C dX10_come_17 ?_
      refine x_sipush (255 : Int32) C dX10_come_18 (by decide) ?_
      refine x_iand C dX10_come_21 ?_
      obtain ⟨h2, hf⟩ := pf_in hf
      refine ms_1 C B h2 dX10_come_22 ?_
      obtain ⟨s3, es3, hf⟩ := pf_e hf
      refine m_ren es3 ?_
      refine x_aload_n C dX10_come_23 0 rfl ?_
      refine x_dup C dX10_come_24 rfl ?_
      refine mg_2 C B dX10_come_25 ?_
      refine x_iconst (1 : Int32) C dX10_come_28 (by decide) ?_
      refine x_iadd C dX10_come_29 ?_
      refine mp_2 C B dX10_come_30 ?_
      obtain ⟨s4, es4, hf⟩ := pf_e hf
      refine m_ren es4 ?_
      refine x_inc (c := (-8 : Int32)) (L' := [(0, .ref (mO M)), (1, .int x1), (2, .int (x2 + (-8 : Int32)))]) C dX10_come_33 2 rfl (by decide) (Nat.le_of_ble_eq_true rfl) [1, 2, 0] rfl ?_
      refine x_goto (tgt := 3) C dX10_come_36 (by decide) ?_
      exact ih x1 (x2 + (-8 : Int32)) _ hf
def f_come (n : Nat) (x1 : Int32) (σ : MS) : Option MS := f_come_3 n n x1 (24 : Int32) σ
set_option maxHeartbeats 4000000 in
theorem w_come_E {K : KT} {M : MT} {τ : MS} (n : Nat) (C : Kok K cX10_come 3 RX10) (B : MB K M) (hr : (kMe K).sig.returnType = none) (dK : kR K = rmD 1) (hQ : KQm K M none τ) (x1 : Int32) (σ : MS) (hf : f_come n x1 σ = some τ) : XJ K 3 (Wm K M σ) 0 [(0, .ref (mO M)), (1, .int x1)] [] := by
  unfold f_come at hf
  refine x_bipush (24 : Int32) C dX10_come_0 (by decide) ?_
  refine x_istore_n (L' := [(0, .ref (mO M)), (1, .int x1), (2, .int (24 : Int32))]) C dX10_come_2 (Nat.le_of_ble_eq_true rfl) [1, 2, 0] rfl ?_
  exact w_come_3 n C B hr dK hQ n x1 (24 : Int32) _ hf
theorem met_come {M : MT} {v : MS} {n : Nat} {σ : MS} {x1 : Int32} {l : Launch} (hc : (mCl M)[mCi M]? = some (RX10, TX10, 61)) (hf : f_come n x1 σ = some v) : Met l yX10_come (ws_ yX10_come cX10_come 3 none) (rmD 1) (va_Pc [.ref (mO M), .int x1] (MU M σ)) (Qm M none v) 0 0 (mAd M) :=
  m_met [.ref (mO M), .int x1] (by decide) rfl (Nat.le_of_ble_eq_true rfl) hc (fun K hl hR hr C B hQ => w_come_E _ C B hr hR hQ _ _ hf)
theorem mc_come {K : KT} {M : MT} {cc : ByteArray} {nL pc dk : Nat} {L : List (Nat × Value)} {rest : List Value} {σ : MS} {v : MS} {n : Nat} {x1 : Int32} (C : Kok K cc nL RX10) (B : MB K M) (dK : kR K = rmD dk) (hd : 1 + 1 ≤ dk) (hf : f_come n x1 σ = some v) (hW : (rest.map fun v => v.category).sum ≤ 8) (dd : decode cc pc = .ok (.invokevirtual 14, 3)) (kk2 : XJ K nL (Wm K M v) (pc + 3) L (rest)) : XJ K nL (Wm K M σ) pc L (.int x1 :: .ref (mO M) :: rest) :=
  m_callV (rest := rest) (v := none) [.int x1] 1 rfl C B dK hd (Nat.le_of_ble_eq_true rfl) (lw_V q1779 q1781 qs39 q133 q1783) (by decide +kernel) (met_come B.2 hf) rfl hW dd kk2
def f_feed (n : Nat) (x1 : Int32) (x2 : Int32) (x3 : Int32) (x4 : Int32) (x5 : Int32) (σ : MS) : Option (Int32 × MS) := ev (si σ 0 (0 : Int32)) fun s1 => if ((gi s1 2) + (20 : Int32)) ≤ (940 : Int32) then ((f_come n x1 s1).bind fun r3 => (f_come n x2 r3).bind fun r4 => (f_come n x3 r4).bind fun r5 => (f_come n x4 r5).bind fun r6 => (f_come n x5 r6).bind fun r7 => some (gi r7 2, r7)) else (some ((-1 : Int32), s1))
set_option maxHeartbeats 4000000 in
theorem w_feed_E {K : KT} {M : MT} {r : Int32} {τ : MS} (n : Nat) (C : Kok K cX10_feed 6 RX10) (B : MB K M) (hr : (kMe K).sig.returnType = some .int) (dK : kR K = rmD 2) (hQ : KQm K M (some (.int r)) τ) (x1 : Int32) (x2 : Int32) (x3 : Int32) (x4 : Int32) (x5 : Int32) (σ : MS) (hf : f_feed n x1 x2 x3 x4 x5 σ = some (r, τ)) : XJ K 6 (Wm K M σ) 0 [(0, .ref (mO M)), (1, .int x1), (2, .int x2), (3, .int x3), (4, .int x4), (5, .int x5)] [] := by
  unfold f_feed at hf
  refine x_aload_n C dX10_feed_0 0 rfl ?_
  refine x_iconst (0 : Int32) C dX10_feed_1 (by decide) ?_
  refine mp_0 C B dX10_feed_2 ?_
  obtain ⟨s1, es1, hf⟩ := pf_e hf
  refine m_ren es1 ?_
  refine x_aload_n C dX10_feed_5 0 rfl ?_
  refine mg_2 C B dX10_feed_6 ?_
  refine x_bipush (20 : Int32) C dX10_feed_9 (by decide) ?_
  refine x_iadd C dX10_feed_11 ?_
  refine x_sipush (940 : Int32) C dX10_feed_12 (by decide) ?_
  refine x_icmp_le (tgt := 20) C dX10_feed_15 (by decide) (fun c2 => ?_) (fun c2 => ?_)
  · have hf := pf_t c2 hf
    refine x_aload_n C dX10_feed_20 0 rfl ?_
    refine x_iload_n C dX10_feed_21 1 rfl ?_
    obtain ⟨r3, er3, hf⟩ := pf_b hf
    refine mc_come C B dK (Nat.le_of_ble_eq_true rfl) er3 (Nat.le_of_ble_eq_true rfl) dX10_feed_22 ?_
    refine x_aload_n C dX10_feed_25 0 rfl ?_
    refine x_iload_n C dX10_feed_26 2 rfl ?_
    obtain ⟨r4, er4, hf⟩ := pf_b hf
    refine mc_come C B dK (Nat.le_of_ble_eq_true rfl) er4 (Nat.le_of_ble_eq_true rfl) dX10_feed_27 ?_
    refine x_aload_n C dX10_feed_30 0 rfl ?_
    refine x_iload_n C dX10_feed_31 3 rfl ?_
    obtain ⟨r5, er5, hf⟩ := pf_b hf
    refine mc_come C B dK (Nat.le_of_ble_eq_true rfl) er5 (Nat.le_of_ble_eq_true rfl) dX10_feed_32 ?_
    refine x_aload_n C dX10_feed_35 0 rfl ?_
    refine x_iload C dX10_feed_36 4 rfl ?_
    obtain ⟨r6, er6, hf⟩ := pf_b hf
    refine mc_come C B dK (Nat.le_of_ble_eq_true rfl) er6 (Nat.le_of_ble_eq_true rfl) dX10_feed_38 ?_
    refine x_aload_n C dX10_feed_41 0 rfl ?_
    refine x_iload C dX10_feed_42 5 rfl ?_
    obtain ⟨r7, er7, hf⟩ := pf_b hf
    refine mc_come C B dK (Nat.le_of_ble_eq_true rfl) er7 (Nat.le_of_ble_eq_true rfl) dX10_feed_44 ?_
    refine x_aload_n C dX10_feed_47 0 rfl ?_
    refine mg_2 C B dX10_feed_48 ?_
    obtain ⟨rfl, rfl⟩ := Prod.mk.inj (Option.some.inj hf)
    exact m_iret C hr hQ dX10_feed_51
  · have hf := pf_f c2 hf
    refine x_iconst (-1 : Int32) C dX10_feed_18 (by decide) ?_
    obtain ⟨rfl, rfl⟩ := Prod.mk.inj (Option.some.inj hf)
    exact m_iret C hr hQ dX10_feed_19
theorem met_feed {M : MT} {v : (Int32 × MS)} {n : Nat} {σ : MS} {x1 : Int32} {x2 : Int32} {x3 : Int32} {x4 : Int32} {x5 : Int32} {l : Launch} (hc : (mCl M)[mCi M]? = some (RX10, TX10, 61)) (hf : f_feed n x1 x2 x3 x4 x5 σ = some v) : Met l yX10_feed (ws_ yX10_feed cX10_feed 6 (some .int)) (rmD 2) (va_Pc [.ref (mO M), .int x1, .int x2, .int x3, .int x4, .int x5] (MU M σ)) (Qm M (some (.int v.1)) v.2) 0 0 (mAd M) :=
  m_met [.ref (mO M), .int x1, .int x2, .int x3, .int x4, .int x5] (by decide) rfl (Nat.le_of_ble_eq_true rfl) hc (fun K hl hR hr C B hQ => w_feed_E _ C B hr hR hQ _ _ _ _ _ _ hf)
def f_end (x1 : Int32) (σ : MS) : (Int32 × MS) := ev (si σ 0 (0 : Int32)) fun s1 => if x1 < 0 then (((0 : Int32), s1)) else (if x1 ≤ (gi s1 2) then (ev (si s1 2 x1) fun s4 => ((1 : Int32), s4)) else (((0 : Int32), s1)))
set_option maxHeartbeats 4000000 in
theorem w_end_E {K : KT} {M : MT} {r : Int32} {τ : MS} (C : Kok K cX10_end 2 RX10) (B : MB K M) (hr : (kMe K).sig.returnType = some .boolean) (dK : kR K = rmD 1) (hQ : KQm K M (some (.int r)) τ) (x1 : Int32) (σ : MS) (hf : f_end x1 σ = (r, τ)) : XJ K 2 (Wm K M σ) 0 [(0, .ref (mO M)), (1, .int x1)] [] := by
  unfold f_end at hf
  refine x_aload_n C dX10_end_0 0 rfl ?_
  refine x_iconst (0 : Int32) C dX10_end_1 (by decide) ?_
  refine mp_0 C B dX10_end_2 ?_
  obtain ⟨s1, es1, hf⟩ := pf_e hf
  refine m_ren es1 ?_
  refine x_iload_n C dX10_end_5 1 rfl ?_
  refine x_if_lt (tgt := 17) C dX10_end_6 (by decide) (fun c2 => ?_) (fun c2 => ?_)
  · have hf := pf_t c2 hf
    refine x_iconst (0 : Int32) C dX10_end_17 (by decide) ?_
    obtain ⟨rfl, rfl⟩ := Prod.mk.inj hf
    exact m_zret C hr (Or.inl rfl) hQ dX10_end_18
  · have hf := pf_f c2 hf
    refine x_iload_n C dX10_end_9 1 rfl ?_
    refine x_aload_n C dX10_end_10 0 rfl ?_
    refine mg_2 C B dX10_end_11 ?_
    refine x_icmp_le (tgt := 19) C dX10_end_14 (by decide) (fun c3 => ?_) (fun c3 => ?_)
    · have hf := pf_t c3 hf
      refine x_aload_n C dX10_end_19 0 rfl ?_
      refine x_iload_n C dX10_end_20 1 rfl ?_
      refine mp_2 C B dX10_end_21 ?_
      obtain ⟨s4, es4, hf⟩ := pf_e hf
      refine m_ren es4 ?_
      refine x_iconst (1 : Int32) C dX10_end_24 (by decide) ?_
      obtain ⟨rfl, rfl⟩ := Prod.mk.inj hf
      exact m_zret C hr (Or.inr rfl) hQ dX10_end_25
    · have hf := pf_f c3 hf
      refine x_iconst (0 : Int32) C dX10_end_17 (by decide) ?_
      obtain ⟨rfl, rfl⟩ := Prod.mk.inj hf
      exact m_zret C hr (Or.inl rfl) hQ dX10_end_18
theorem bz_end_E {r : Int32} {τ : MS} {x1 : Int32} {σ : MS} (hf : f_end x1 σ = (r, τ)) : r = 0 ∨ r = 1 := by
  unfold f_end at hf
  obtain ⟨s1, es1, hf⟩ := pf_e hf
  by_cases c2 : x1 < 0
  · have hf := pf_t c2 hf
    obtain ⟨rfl, rfl⟩ := Prod.mk.inj hf
    exact (Or.inl rfl)
  · have hf := pf_f c2 hf
    by_cases c3 : x1 ≤ (gi s1 2)
    · have hf := pf_t c3 hf
      obtain ⟨s4, es4, hf⟩ := pf_e hf
      obtain ⟨rfl, rfl⟩ := Prod.mk.inj hf
      exact (Or.inr rfl)
    · have hf := pf_f c3 hf
      obtain ⟨rfl, rfl⟩ := Prod.mk.inj hf
      exact (Or.inl rfl)
theorem met_end {M : MT} {v : (Int32 × MS)} {σ : MS} {x1 : Int32} {l : Launch} (hc : (mCl M)[mCi M]? = some (RX10, TX10, 61)) (hf : f_end x1 σ = v) : Met l yX10_end (ws_ yX10_end cX10_end 2 (some .boolean)) (rmD 1) (va_Pc [.ref (mO M), .int x1] (MU M σ)) (Qm M (some (.int v.1)) v.2) 0 0 (mAd M) :=
  m_met [.ref (mO M), .int x1] (by decide) rfl (Nat.le_of_ble_eq_true rfl) hc (fun K hl hR hr C B hQ => w_end_E C B hr hR hQ _ _ hf)
def f_startSo_83 (n : Nat) (k26 : Int32 → MS → Option MS) (x1 : Int32) (y1 : Int32) (y2 : Int32) (σ : MS) : Option MS := if inb y1 532 = true then ev (sa σ 14 (Int32.toNatClampNeg y1) y2) fun s2 => if inb ((38 : Int32) + x1) 532 = true then if inb ((218 : Int32) + x1) 532 = true then ev (sa s2 14 (Int32.toNatClampNeg ((218 : Int32) + x1)) (ga s2 14 (Int32.toNatClampNeg ((38 : Int32) + x1)))) fun s5 => k26 (x1 + (1 : Int32)) s5 else none else none else none
set_option maxHeartbeats 4000000 in
theorem w_startSo_83 {K : KT} {M : MT} {τ : MS} (n : Nat) (k26 : Int32 → MS → Option MS) (C : Kok K cX10_startSo 2 RX10) (B : MB K M) (hr : (kMe K).sig.returnType = none) (dK : kR K = rmD 1) (hQ : KQm K M none τ)  (hk26 : ∀ (x1 : Int32) (σ : MS), k26 x1 σ = some τ → XJ K 2 (Wm K M σ) 26 [(0, .ref (mO M)), (1, .int x1)] []) (x1 : Int32) (y1 : Int32) (y2 : Int32) (σ : MS) (hf : f_startSo_83 n k26 x1 y1 y2 σ = some τ) : XJ K 2 (Wm K M σ) 83 [(0, .ref (mO M)), (1, .int x1)] [.int y2, .int y1, .ref (mAr M 14)] := by
  unfold f_startSo_83 at hf
  obtain ⟨h1, hf⟩ := pf_in hf
  refine ms_14 C B h1 dX10_startSo_83 ?_
  obtain ⟨s2, es2, hf⟩ := pf_e hf
  refine m_ren es2 ?_
  refine x_aload_n C dX10_startSo_84 0 rfl ?_
  refine mg_14 C B dX10_startSo_85 ?_
  refine x_sipush (218 : Int32) C dX10_startSo_88 (by decide) ?_
  refine x_iload_n C dX10_startSo_91 1 rfl ?_
  refine x_iadd C dX10_startSo_92 ?_
  refine x_aload_n C dX10_startSo_93 0 rfl ?_
  refine mg_14 C B dX10_startSo_94 ?_
  refine x_bipush (38 : Int32) C dX10_startSo_97 (by decide) ?_
  refine x_iload_n C dX10_startSo_99 1 rfl ?_
  refine x_iadd C dX10_startSo_100 ?_
  obtain ⟨h3, hf⟩ := pf_in hf
  refine ml_14 C B h3 dX10_startSo_101 ?_
  obtain ⟨h4, hf⟩ := pf_in hf
  refine ms_14 C B h4 dX10_startSo_102 ?_
  obtain ⟨s5, es5, hf⟩ := pf_e hf
  refine m_ren es5 ?_
  refine x_inc (c := (1 : Int32)) (L' := [(0, .ref (mO M)), (1, .int (x1 + (1 : Int32)))]) C dX10_startSo_103 1 rfl (by decide) (Nat.le_of_ble_eq_true rfl) [1, 0] rfl ?_
  refine x_goto (tgt := 26) C dX10_startSo_106 (by decide) ?_
  exact hk26 (x1 + (1 : Int32)) _ hf
def f_startSo_26 (n : Nat) : Nat → Int32 → MS → Option MS
  | 0, _, _ => none
  | m + 1, x1, σ => if (8 : Int32) ≤ x1 then (some σ) else (if inb ((22 : Int32) + x1) 532 = true then if inb ((202 : Int32) + x1) 532 = true then ev (sa σ 14 (Int32.toNatClampNeg ((202 : Int32) + x1)) (ga σ 14 (Int32.toNatClampNeg ((22 : Int32) + x1)))) fun s4 => if (ga s4 14 3) ≤ x1 then (f_startSo_83 n (f_startSo_26 n m) x1 ((210 : Int32) + x1) (-1 : Int32) s4) else (if inb ((30 : Int32) + x1) 532 = true then f_startSo_83 n (f_startSo_26 n m) x1 ((210 : Int32) + x1) (ga s4 14 (Int32.toNatClampNeg ((30 : Int32) + x1))) s4 else none) else none else none)
set_option maxHeartbeats 4000000 in
theorem w_startSo_26 {K : KT} {M : MT} {τ : MS} (n : Nat) (C : Kok K cX10_startSo 2 RX10) (B : MB K M) (hr : (kMe K).sig.returnType = none) (dK : kR K = rmD 1) (hQ : KQm K M none τ) : ∀ (m : Nat) (x1 : Int32) (σ : MS) (hf : f_startSo_26 n m x1 σ = some τ), XJ K 2 (Wm K M σ) 26 [(0, .ref (mO M)), (1, .int x1)] [] := by
  intro m
  induction m with
  | zero => intro x1 σ hf; cases hf
  | succ m ih =>
    intro x1 σ hf
    rw [f_startSo_26] at hf
    refine x_iload_n C dX10_startSo_26 1 rfl ?_
    refine x_bipush (8 : Int32) C dX10_startSo_27 (by decide) ?_
    refine x_icmp_ge (tgt := 109) C dX10_startSo_29 (by decide) (fun c1 => ?_) (fun c1 => ?_)
    · have hf := pf_t c1 hf
      obtain rfl := Option.some.inj hf
      exact m_vret C hr hQ dX10_startSo_109
    · have hf := pf_f c1 hf
      refine x_aload_n C dX10_startSo_32 0 rfl ?_
      refine mg_14 C B dX10_startSo_33 ?_
      refine x_sipush (202 : Int32) C dX10_startSo_36 (by decide) ?_
      refine x_iload_n C dX10_startSo_39 1 rfl ?_
      refine x_iadd C dX10_startSo_40 ?_
      refine x_aload_n C dX10_startSo_41 0 rfl ?_
      refine mg_14 C B dX10_startSo_42 ?_
      refine x_bipush (22 : Int32) C dX10_startSo_45 (by decide) ?_
      refine x_iload_n C dX10_startSo_47 1 rfl ?_
      refine x_iadd C dX10_startSo_48 ?_
      obtain ⟨h2, hf⟩ := pf_in hf
      refine ml_14 C B h2 dX10_startSo_49 ?_
      obtain ⟨h3, hf⟩ := pf_in hf
      refine ms_14 C B h3 dX10_startSo_50 ?_
      obtain ⟨s4, es4, hf⟩ := pf_e hf
      refine m_ren es4 ?_
      refine x_aload_n C dX10_startSo_51 0 rfl ?_
      refine mg_14 C B dX10_startSo_52 ?_
      refine x_sipush (210 : Int32) C dX10_startSo_55 (by decide) ?_
      refine x_iload_n C dX10_startSo_58 1 rfl ?_
      refine x_iadd C dX10_startSo_59 ?_
      refine x_iload_n C dX10_startSo_60 1 rfl ?_
      refine x_aload_n C dX10_startSo_61 0 rfl ?_
      refine mg_14 C B dX10_startSo_62 ?_
      refine x_iconst (3 : Int32) C dX10_startSo_65 (by decide) ?_
      refine mlc_14 3 C B (by decide +kernel) dX10_startSo_66 ?_
      refine x_icmp_ge (tgt := 82) C dX10_startSo_67 (by decide) (fun c5 => ?_) (fun c5 => ?_)
      · have hf := pf_t c5 hf
        refine x_iconst (-1 : Int32) C dX10_startSo_82 (by decide) ?_
        exact w_startSo_83 n _ C B hr dK hQ ih x1 ((210 : Int32) + x1) (-1 : Int32) _ hf
      · have hf := pf_f c5 hf
        refine x_aload_n C dX10_startSo_70 0 rfl ?_
        refine mg_14 C B dX10_startSo_71 ?_
        refine x_bipush (30 : Int32) C dX10_startSo_74 (by decide) ?_
        refine x_iload_n C dX10_startSo_76 1 rfl ?_
        refine x_iadd C dX10_startSo_77 ?_
        obtain ⟨h6, hf⟩ := pf_in hf
        refine ml_14 C B h6 dX10_startSo_78 ?_
        refine x_goto (tgt := 83) C dX10_startSo_79 (by decide) ?_
        exact w_startSo_83 n _ C B hr dK hQ ih x1 ((210 : Int32) + x1) (ga s4 14 (Int32.toNatClampNeg ((30 : Int32) + x1))) _ hf
def f_startSo_4 (n : Nat) : Nat → Int32 → MS → Option MS
  | 0, _, _ => none
  | m + 1, x1, σ => if (532 : Int32) ≤ x1 then (f_startSo_26 n n (0 : Int32) σ) else (if inb x1 532 = true then ev (sa σ 14 (Int32.toNatClampNeg x1) (0 : Int32)) fun s3 => f_startSo_4 n m (x1 + (1 : Int32)) s3 else none)
set_option maxHeartbeats 4000000 in
theorem w_startSo_4 {K : KT} {M : MT} {τ : MS} (n : Nat) (C : Kok K cX10_startSo 2 RX10) (B : MB K M) (hr : (kMe K).sig.returnType = none) (dK : kR K = rmD 1) (hQ : KQm K M none τ) : ∀ (m : Nat) (x1 : Int32) (σ : MS) (hf : f_startSo_4 n m x1 σ = some τ), XJ K 2 (Wm K M σ) 4 [(0, .ref (mO M)), (1, .int x1)] [] := by
  intro m
  induction m with
  | zero => intro x1 σ hf; cases hf
  | succ m ih =>
    intro x1 σ hf
    rw [f_startSo_4] at hf
    refine x_iload_n C dX10_startSo_4 1 rfl ?_
    refine x_sipush (532 : Int32) C dX10_startSo_5 (by decide) ?_
    refine x_icmp_ge (tgt := 24) C dX10_startSo_8 (by decide) (fun c1 => ?_) (fun c1 => ?_)
    · have hf := pf_t c1 hf
      refine x_iconst (0 : Int32) C dX10_startSo_24 (by decide) ?_
      refine x_istore_n (L' := [(0, .ref (mO M)), (1, .int (0 : Int32))]) C dX10_startSo_25 (Nat.le_of_ble_eq_true rfl) [1, 0] rfl ?_
      exact w_startSo_26 n C B hr dK hQ n (0 : Int32) _ hf
    · have hf := pf_f c1 hf
      refine x_aload_n C dX10_startSo_11 0 rfl ?_
      refine mg_14 C B dX10_startSo_12 ?_
      refine x_iload_n C dX10_startSo_15 1 rfl ?_
      refine x_iconst (0 : Int32) C dX10_startSo_16 (by decide) ?_
      obtain ⟨h2, hf⟩ := pf_in hf
      refine ms_14 C B h2 dX10_startSo_17 ?_
      obtain ⟨s3, es3, hf⟩ := pf_e hf
      refine m_ren es3 ?_
      refine x_inc (c := (1 : Int32)) (L' := [(0, .ref (mO M)), (1, .int (x1 + (1 : Int32)))]) C dX10_startSo_18 1 rfl (by decide) (Nat.le_of_ble_eq_true rfl) [1, 0] rfl ?_
      refine x_goto (tgt := 4) C dX10_startSo_21 (by decide) ?_
      exact ih (x1 + (1 : Int32)) _ hf
def f_startSo (n : Nat) (σ : MS) : Option MS := f_startSo_4 n n (198 : Int32) σ
set_option maxHeartbeats 4000000 in
theorem w_startSo_E {K : KT} {M : MT} {τ : MS} (n : Nat) (C : Kok K cX10_startSo 2 RX10) (B : MB K M) (hr : (kMe K).sig.returnType = none) (dK : kR K = rmD 1) (hQ : KQm K M none τ) (σ : MS) (hf : f_startSo n σ = some τ) : XJ K 2 (Wm K M σ) 0 [(0, .ref (mO M))] [] := by
  unfold f_startSo at hf
  refine x_sipush (198 : Int32) C dX10_startSo_0 (by decide) ?_
  refine x_istore_n (L' := [(0, .ref (mO M)), (1, .int (198 : Int32))]) C dX10_startSo_3 (Nat.le_of_ble_eq_true rfl) [1, 0] rfl ?_
  exact w_startSo_4 n C B hr dK hQ n (198 : Int32) _ hf
theorem met_startSo {M : MT} {v : MS} {n : Nat} {σ : MS} {l : Launch} (hc : (mCl M)[mCi M]? = some (RX10, TX10, 61)) (hf : f_startSo n σ = some v) : Met l yX10_startSo (ws_ yX10_startSo cX10_startSo 2 none) (rmD 1) (va_Pc [.ref (mO M)] (MU M σ)) (Qm M none v) 0 0 (mAd M) :=
  m_met [.ref (mO M)] (by decide) rfl (Nat.le_of_ble_eq_true rfl) hc (fun K hl hR hr C B hQ => w_startSo_E _ C B hr hR hQ _ hf)
theorem mc_startSo {K : KT} {M : MT} {cc : ByteArray} {nL pc dk : Nat} {L : List (Nat × Value)} {rest : List Value} {σ : MS} {v : MS} {n : Nat} (C : Kok K cc nL RX10) (B : MB K M) (dK : kR K = rmD dk) (hd : 1 + 1 ≤ dk) (hf : f_startSo n σ = some v) (hW : (rest.map fun v => v.category).sum ≤ 8) (dd : decode cc pc = .ok (.invokevirtual 190, 3)) (kk2 : XJ K nL (Wm K M v) (pc + 3) L (rest)) : XJ K nL (Wm K M σ) pc L (.ref (mO M) :: rest) :=
  m_callV (rest := rest) (v := none) [] 0 rfl C B dK hd (Nat.le_of_ble_eq_true rfl) (lw_V q1793 q1795 qs40 q133 q1796) (by decide +kernel) (met_startSo B.2 hf) rfl hW dd kk2
def f_isDigit (x0 : Int32) : Int32 := if x0 < (48 : Int32) then ((0 : Int32)) else (if (57 : Int32) < x0 then ((0 : Int32)) else ((1 : Int32)))
set_option maxHeartbeats 4000000 in
theorem w_isDigit_E {K : KT} {M : MT} {r : Int32} {σ : MS} (C : Kok K cX10_isDigit 1 RX10) (B : MB K M) (hr : (kMe K).sig.returnType = some .boolean) (dK : kR K = rmD 1) (hQ : KQm K M (some (.int r)) σ) (x0 : Int32) (hf : f_isDigit x0 = r) : XJ K 1 (Wm K M σ) 0 [(0, .int x0)] [] := by
  unfold f_isDigit at hf
  refine x_iload_n C dX10_isDigit_0 0 rfl ?_
  refine x_bipush (48 : Int32) C dX10_isDigit_1 (by decide) ?_
  refine x_icmp_lt (tgt := 16) C dX10_isDigit_3 (by decide) (fun c1 => ?_) (fun c1 => ?_)
  · have hf := pf_t c1 hf
    refine x_iconst (0 : Int32) C dX10_isDigit_16 (by decide) ?_
    subst hf
    exact m_zret C hr (Or.inl rfl) hQ dX10_isDigit_17
  · have hf := pf_f c1 hf
    refine x_iload_n C dX10_isDigit_6 0 rfl ?_
    refine x_bipush (57 : Int32) C dX10_isDigit_7 (by decide) ?_
    refine x_icmp_gt (tgt := 16) C dX10_isDigit_9 (by decide) (fun c2 => ?_) (fun c2 => ?_)
    · have hf := pf_t c2 hf
      refine x_iconst (0 : Int32) C dX10_isDigit_16 (by decide) ?_
      subst hf
      exact m_zret C hr (Or.inl rfl) hQ dX10_isDigit_17
    · have hf := pf_f c2 hf
      refine x_iconst (1 : Int32) C dX10_isDigit_12 (by decide) ?_
      refine x_goto (tgt := 17) C dX10_isDigit_13 (by decide) ?_
      subst hf
      exact m_zret C hr (Or.inr rfl) hQ dX10_isDigit_17
theorem bz_isDigit_E {r : Int32} {x0 : Int32} (hf : f_isDigit x0 = r) : r = 0 ∨ r = 1 := by
  unfold f_isDigit at hf
  by_cases c1 : x0 < (48 : Int32)
  · have hf := pf_t c1 hf
    subst hf
    exact (Or.inl rfl)
  · have hf := pf_f c1 hf
    by_cases c2 : (57 : Int32) < x0
    · have hf := pf_t c2 hf
      subst hf
      exact (Or.inl rfl)
    · have hf := pf_f c2 hf
      subst hf
      exact (Or.inr rfl)
theorem met_isDigit {M : MT} {v : Int32} {σ : MS} {x0 : Int32} {l : Launch} (hc : (mCl M)[mCi M]? = some (RX10, TX10, 61)) (hf : f_isDigit x0 = v) : Met l yX10_isDigit (ws_ yX10_isDigit cX10_isDigit 1 (some .boolean)) (rmD 1) (va_Pc [.int x0] (MU M σ)) (Qm M (some (.int v)) σ) 0 0 (mAd M) :=
  m_met [.int x0] (by decide) rfl (Nat.le_of_ble_eq_true rfl) hc (fun K hl hR hr C B hQ => w_isDigit_E C B hr hR hQ _ hf)
theorem mc_isDigit {K : KT} {M : MT} {cc : ByteArray} {nL pc dk : Nat} {L : List (Nat × Value)} {rest : List Value} {σ : MS} {v : Int32} {x0 : Int32} (C : Kok K cc nL RX10) (B : MB K M) (dK : kR K = rmD dk) (hd : 1 + 1 ≤ dk) (hf : f_isDigit x0 = v) (hW : (rest.map fun v => v.category).sum ≤ 8) (dd : decode cc pc = .ok (.invokestatic 37, 3)) (kk2 : XJ K nL (Wm K M σ) (pc + 3) L ((.int v) :: rest)) : XJ K nL (Wm K M σ) pc L (.int x0 :: rest) :=
  m_callS (rest := rest) (v := (some (.int v))) [.int x0] 1 rfl C B dK hd (Nat.le_of_ble_eq_true rfl) (lw_S q2000 q2001 q133 q2002) (by decide +kernel) (met_isDigit B.2 hf) rfl hW dd kk2
def f_isLetter (x0 : Int32) : Int32 := if x0 < (97 : Int32) then ((0 : Int32)) else (if (122 : Int32) < x0 then ((0 : Int32)) else ((1 : Int32)))
set_option maxHeartbeats 4000000 in
theorem w_isLetter_E {K : KT} {M : MT} {r : Int32} {σ : MS} (C : Kok K cX10_isLetter 1 RX10) (B : MB K M) (hr : (kMe K).sig.returnType = some .boolean) (dK : kR K = rmD 1) (hQ : KQm K M (some (.int r)) σ) (x0 : Int32) (hf : f_isLetter x0 = r) : XJ K 1 (Wm K M σ) 0 [(0, .int x0)] [] := by
  unfold f_isLetter at hf
  refine x_iload_n C dX10_isLetter_0 0 rfl ?_
  refine x_bipush (97 : Int32) C dX10_isLetter_1 (by decide) ?_
  refine x_icmp_lt (tgt := 16) C dX10_isLetter_3 (by decide) (fun c1 => ?_) (fun c1 => ?_)
  · have hf := pf_t c1 hf
    refine x_iconst (0 : Int32) C dX10_isLetter_16 (by decide) ?_
    subst hf
    exact m_zret C hr (Or.inl rfl) hQ dX10_isLetter_17
  · have hf := pf_f c1 hf
    refine x_iload_n C dX10_isLetter_6 0 rfl ?_
    refine x_bipush (122 : Int32) C dX10_isLetter_7 (by decide) ?_
    refine x_icmp_gt (tgt := 16) C dX10_isLetter_9 (by decide) (fun c2 => ?_) (fun c2 => ?_)
    · have hf := pf_t c2 hf
      refine x_iconst (0 : Int32) C dX10_isLetter_16 (by decide) ?_
      subst hf
      exact m_zret C hr (Or.inl rfl) hQ dX10_isLetter_17
    · have hf := pf_f c2 hf
      refine x_iconst (1 : Int32) C dX10_isLetter_12 (by decide) ?_
      refine x_goto (tgt := 17) C dX10_isLetter_13 (by decide) ?_
      subst hf
      exact m_zret C hr (Or.inr rfl) hQ dX10_isLetter_17
theorem bz_isLetter_E {r : Int32} {x0 : Int32} (hf : f_isLetter x0 = r) : r = 0 ∨ r = 1 := by
  unfold f_isLetter at hf
  by_cases c1 : x0 < (97 : Int32)
  · have hf := pf_t c1 hf
    subst hf
    exact (Or.inl rfl)
  · have hf := pf_f c1 hf
    by_cases c2 : (122 : Int32) < x0
    · have hf := pf_t c2 hf
      subst hf
      exact (Or.inl rfl)
    · have hf := pf_f c2 hf
      subst hf
      exact (Or.inr rfl)
theorem met_isLetter {M : MT} {v : Int32} {σ : MS} {x0 : Int32} {l : Launch} (hc : (mCl M)[mCi M]? = some (RX10, TX10, 61)) (hf : f_isLetter x0 = v) : Met l yX10_isLetter (ws_ yX10_isLetter cX10_isLetter 1 (some .boolean)) (rmD 1) (va_Pc [.int x0] (MU M σ)) (Qm M (some (.int v)) σ) 0 0 (mAd M) :=
  m_met [.int x0] (by decide) rfl (Nat.le_of_ble_eq_true rfl) hc (fun K hl hR hr C B hQ => w_isLetter_E C B hr hR hQ _ hf)
theorem mc_isLetter {K : KT} {M : MT} {cc : ByteArray} {nL pc dk : Nat} {L : List (Nat × Value)} {rest : List Value} {σ : MS} {v : Int32} {x0 : Int32} (C : Kok K cc nL RX10) (B : MB K M) (dK : kR K = rmD dk) (hd : 1 + 1 ≤ dk) (hf : f_isLetter x0 = v) (hW : (rest.map fun v => v.category).sum ≤ 8) (dd : decode cc pc = .ok (.invokestatic 33, 3)) (kk2 : XJ K nL (Wm K M σ) (pc + 3) L ((.int v) :: rest)) : XJ K nL (Wm K M σ) pc L (.int x0 :: rest) :=
  m_callS (rest := rest) (v := (some (.int v))) [.int x0] 1 rfl C B dK hd (Nat.le_of_ble_eq_true rfl) (lw_S q1997 q1998 q133 q1999) (by decide +kernel) (met_isLetter B.2 hf) rfl hW dd kk2
def f_tapeAt (σ : MS) (x1 : Int32) : Option Int32 := if (gi σ 3) ≤ x1 then (some (0 : Int32)) else (if inb x1 940 = true then some (ga σ 1 (Int32.toNatClampNeg x1)) else none)
set_option maxHeartbeats 4000000 in
theorem w_tapeAt_E {K : KT} {M : MT} {r : Int32} (σ : MS) (C : Kok K cX10_tapeAt 2 RX10) (B : MB K M) (hr : (kMe K).sig.returnType = some .int) (dK : kR K = rmD 1) (hQ : KQm K M (some (.int r)) σ) (x1 : Int32) (hf : f_tapeAt σ x1 = some r) : XJ K 2 (Wm K M σ) 0 [(0, .ref (mO M)), (1, .int x1)] [] := by
  unfold f_tapeAt at hf
  refine x_iload_n C dX10_tapeAt_0 1 rfl ?_
  refine x_aload_n C dX10_tapeAt_1 0 rfl ?_
  refine mg_3 C B dX10_tapeAt_2 ?_
  refine x_icmp_ge (tgt := 17) C dX10_tapeAt_5 (by decide) (fun c1 => ?_) (fun c1 => ?_)
  · have hf := pf_t c1 hf
    refine x_iconst (0 : Int32) C dX10_tapeAt_17 (by decide) ?_
    obtain rfl := Option.some.inj hf
    exact m_iret C hr hQ dX10_tapeAt_18
  · have hf := pf_f c1 hf
    refine x_aload_n C dX10_tapeAt_8 0 rfl ?_
    refine mg_1 C B dX10_tapeAt_9 ?_
    refine x_iload_n C dX10_tapeAt_12 1 rfl ?_
    obtain ⟨h2, hf⟩ := pf_in hf
    refine ml_1 C B h2 dX10_tapeAt_13 ?_
    refine x_goto (tgt := 18) C dX10_tapeAt_14 (by decide) ?_
    obtain rfl := Option.some.inj hf
    exact m_iret C hr hQ dX10_tapeAt_18
theorem met_tapeAt {M : MT} {v : Int32} {σ : MS} {x1 : Int32} {l : Launch} (hc : (mCl M)[mCi M]? = some (RX10, TX10, 61)) (hf : f_tapeAt σ x1 = some v) : Met l yX10_tapeAt (ws_ yX10_tapeAt cX10_tapeAt 2 (some .int)) (rmD 1) (va_Pc [.ref (mO M), .int x1] (MU M σ)) (Qm M (some (.int v)) σ) 0 0 (mAd M) :=
  m_met [.ref (mO M), .int x1] (by decide) rfl (Nat.le_of_ble_eq_true rfl) hc (fun K hl hR hr C B hQ => w_tapeAt_E _ C B hr hR hQ _ hf)
theorem mc_tapeAt {K : KT} {M : MT} {cc : ByteArray} {nL pc dk : Nat} {L : List (Nat × Value)} {rest : List Value} {σ : MS} {v : Int32} {x1 : Int32} (C : Kok K cc nL RX10) (B : MB K M) (dK : kR K = rmD dk) (hd : 1 + 1 ≤ dk) (hf : f_tapeAt σ x1 = some v) (hW : (rest.map fun v => v.category).sum ≤ 8) (dd : decode cc pc = .ok (.invokevirtual 50, 3)) (kk2 : XJ K nL (Wm K M σ) (pc + 3) L ((.int v) :: rest)) : XJ K nL (Wm K M σ) pc L (.int x1 :: .ref (mO M) :: rest) :=
  m_callV (rest := rest) (v := (some (.int v))) [.int x1] 1 rfl C B dK hd (Nat.le_of_ble_eq_true rfl) (lw_V q2003 q2005 qs44 q133 q2006) (by decide +kernel) (met_tapeAt B.2 hf) rfl hW dd kk2
def f_go_179 (n : Nat) (x1 : Int32) (y1 : Int32) (σ : MS) : Option MS := ev (si σ 7 y1) fun s1 => ev (si s1 9 x1) fun s2 => ev (si s2 5 ((gi s2 5) + (1 : Int32))) fun s3 => some s3
set_option maxHeartbeats 4000000 in
theorem w_go_179 {K : KT} {M : MT} {τ : MS} (n : Nat) (C : Kok K cX10_go 5 RX10) (B : MB K M) (hr : (kMe K).sig.returnType = none) (dK : kR K = rmD 2) (hQ : KQm K M none τ) (x1 : Int32) (y1 : Int32) (σ : MS) (hf : f_go_179 n x1 y1 σ = some τ) : XJ K 5 (Wm K M σ) 179 [(0, .ref (mO M)), (1, .int x1)] [.int y1, .ref (mO M)] := by
  unfold f_go_179 at hf
  refine mp_7 C B dX10_go_179 ?_
  obtain ⟨s1, es1, hf⟩ := pf_e hf
  refine m_ren es1 ?_
  refine x_aload_n C dX10_go_182 0 rfl ?_
  refine x_iload_n C dX10_go_183 1 rfl ?_
  refine mp_9 C B dX10_go_184 ?_
  obtain ⟨s2, es2, hf⟩ := pf_e hf
  refine m_ren es2 ?_
  refine x_aload_n C dX10_go_187 0 rfl ?_
  refine x_dup C dX10_go_188 rfl ?_
  refine mg_5 C B dX10_go_189 ?_
  refine x_iconst (1 : Int32) C dX10_go_192 (by decide) ?_
  refine x_iadd C dX10_go_193 ?_
  refine mp_5 C B dX10_go_194 ?_
  obtain ⟨s3, es3, hf⟩ := pf_e hf
  refine m_ren es3 ?_
  obtain rfl := Option.some.inj hf
  exact m_vret C hr hQ dX10_go_197
def f_go_307 (n : Nat) (k215 : Int32 → Int32 → MS → Option MS) (x2 : Int32) (x3 : Int32) (x4 : Int32) (σ : MS) : Option MS := if (3 : Int32) ≤ ((gi σ 5) - (gi σ 6)) then (ev (si σ 5 ((gi σ 5) + (1 : Int32))) fun s2 => k215 x2 x3 s2) else (ev (si σ 8 ((((10 : Int32) * (gi σ 8)) + x4) - (48 : Int32))) fun s3 => ev (si s3 5 ((gi s3 5) + (1 : Int32))) fun s4 => k215 x2 x3 s4)
set_option maxHeartbeats 4000000 in
theorem w_go_307 {K : KT} {M : MT} {τ : MS} (n : Nat) (k215 : Int32 → Int32 → MS → Option MS) (C : Kok K cX10_go 5 RX10) (B : MB K M) (hr : (kMe K).sig.returnType = none) (dK : kR K = rmD 2) (hQ : KQm K M none τ)  (hk215 : ∀ (x2 : Int32) (x3 : Int32) (σ : MS), k215 x2 x3 σ = some τ → XJ K 5 (Wm K M σ) 215 [(0, .ref (mO M)), (2, .int x2), (3, .int x3)] []) (x2 : Int32) (x3 : Int32) (x4 : Int32) (σ : MS) (hf : f_go_307 n k215 x2 x3 x4 σ = some τ) : XJ K 5 (Wm K M σ) 307 [(0, .ref (mO M)), (2, .int x2), (3, .int x3), (4, .int x4)] [] := by
  unfold f_go_307 at hf
  refine x_aload_n C dX10_go_307 0 rfl ?_
  refine mg_5 C B dX10_go_308 ?_
  refine x_aload_n C dX10_go_311 0 rfl ?_
  refine mg_6 C B dX10_go_312 ?_
  refine x_isub C dX10_go_315 ?_
  refine x_iconst (3 : Int32) C dX10_go_316 (by decide) ?_
  refine x_icmp_ge (tgt := 337) C dX10_go_317 (by decide) (fun c1 => ?_) (fun c1 => ?_)
  · have hf := pf_t c1 hf
    refine x_aload_n C dX10_go_337 0 rfl ?_
    refine x_dup C dX10_go_338 rfl ?_
    refine mg_5 C B dX10_go_339 ?_
    refine x_iconst (1 : Int32) C dX10_go_342 (by decide) ?_
    refine x_iadd C dX10_go_343 ?_
    refine mp_5 C B dX10_go_344 ?_
    obtain ⟨s2, es2, hf⟩ := pf_e hf
    refine m_ren es2 ?_
    refine x_goto (tgt := 215) C dX10_go_347 (by decide) ?_
    refine x_sub [0, 1, 2] (L' := [(0, .ref (mO M)), (2, .int x2), (3, .int x3)]) rfl ?_
    exact hk215 x2 x3 _ hf
  · have hf := pf_f c1 hf
    refine x_aload_n C dX10_go_320 0 rfl ?_
    refine x_bipush (10 : Int32) C dX10_go_321 (by decide) ?_
    refine x_aload_n C dX10_go_323 0 rfl ?_
    refine mg_8 C B dX10_go_324 ?_
    refine x_imul C dX10_go_327 ?_
    refine x_iload C dX10_go_328 3 rfl ?_
    refine x_iadd C dX10_go_330 ?_
    refine x_bipush (48 : Int32) C dX10_go_331 (by decide) ?_
    refine x_isub C dX10_go_333 ?_
    refine mp_8 C B dX10_go_334 ?_
    obtain ⟨s3, es3, hf⟩ := pf_e hf
    refine m_ren es3 ?_
    refine x_aload_n C dX10_go_337 0 rfl ?_
    refine x_dup C dX10_go_338 rfl ?_
    refine mg_5 C B dX10_go_339 ?_
    refine x_iconst (1 : Int32) C dX10_go_342 (by decide) ?_
    refine x_iadd C dX10_go_343 ?_
    refine mp_5 C B dX10_go_344 ?_
    obtain ⟨s4, es4, hf⟩ := pf_e hf
    refine m_ren es4 ?_
    refine x_goto (tgt := 215) C dX10_go_347 (by decide) ?_
    refine x_sub [0, 1, 2] (L' := [(0, .ref (mO M)), (2, .int x2), (3, .int x3)]) rfl ?_
    exact hk215 x2 x3 _ hf
def f_go_272 (n : Nat) (k215 : Int32 → Int32 → MS → Option MS) (x2 : Int32) (x4 : Int32) (y0 : Int32) (σ : MS) : Option MS := if (7 : Int32) ≤ ((gi σ 5) - (gi σ 6)) then (f_go_307 n k215 x2 y0 x4 σ) else (ev (sl σ 12 ((((27 : Int64) * (gl σ 12)) + (Int32.toInt64 x4)) - (96 : Int64))) fun s2 => f_go_307 n k215 x2 y0 x4 s2)
set_option maxHeartbeats 4000000 in
theorem w_go_272 {K : KT} {M : MT} {τ : MS} (n : Nat) (k215 : Int32 → Int32 → MS → Option MS) (C : Kok K cX10_go 5 RX10) (B : MB K M) (hr : (kMe K).sig.returnType = none) (dK : kR K = rmD 2) (hQ : KQm K M none τ)  (hk215 : ∀ (x2 : Int32) (x3 : Int32) (σ : MS), k215 x2 x3 σ = some τ → XJ K 5 (Wm K M σ) 215 [(0, .ref (mO M)), (2, .int x2), (3, .int x3)] []) (x2 : Int32) (x4 : Int32) (y0 : Int32) (σ : MS) (hf : f_go_272 n k215 x2 x4 y0 σ = some τ) : XJ K 5 (Wm K M σ) 272 [(0, .ref (mO M)), (2, .int x2), (4, .int x4)] [.int y0] := by
  unfold f_go_272 at hf
  refine x_istore_n (L' := [(0, .ref (mO M)), (2, .int x2), (3, .int y0), (4, .int x4)]) C dX10_go_272 (Nat.le_of_ble_eq_true rfl) [1, 2, 0, 3] rfl ?_
  refine x_aload_n C dX10_go_273 0 rfl ?_
  refine mg_5 C B dX10_go_274 ?_
  refine x_aload_n C dX10_go_277 0 rfl ?_
  refine mg_6 C B dX10_go_278 ?_
  refine x_isub C dX10_go_281 ?_
  refine x_bipush (7 : Int32) C dX10_go_282 (by decide) ?_
  refine x_icmp_ge (tgt := 307) C dX10_go_284 (by decide) (fun c1 => ?_) (fun c1 => ?_)
  · have hf := pf_t c1 hf
    exact w_go_307 n _ C B hr dK hQ hk215 x2 y0 x4 _ hf
  · have hf := pf_f c1 hf
    refine x_aload_n C dX10_go_287 0 rfl ?_
    refine x_ldc2 C q2007 dX10_go_288 ?_
    refine x_aload_n C dX10_go_291 0 rfl ?_
    refine mg_12 C B dX10_go_292 ?_
    refine x_lmul C dX10_go_295 ?_
    refine x_iload C dX10_go_296 3 rfl ?_
    refine x_i2l C dX10_go_298 ?_
    refine x_ladd C dX10_go_299 ?_
    refine x_ldc2 C q2008 dX10_go_300 ?_
    refine x_lsub C dX10_go_303 ?_
    refine mp_12 C B dX10_go_304 ?_
    obtain ⟨s2, es2, hf⟩ := pf_e hf
    refine m_ren es2 ?_
    exact w_go_307 n _ C B hr dK hQ hk215 x2 y0 x4 _ hf
def f_go_243 (n : Nat) (k215 : Int32 → Int32 → MS → Option MS) (x2 : Int32) (x3 : Int32) (σ : MS) : Option MS := if inb (gi σ 5) 940 = true then ev (ga σ 1 (Int32.toNatClampNeg (gi σ 5))) fun v2 => if x3 = 0 then (f_go_272 n k215 x2 v2 (0 : Int32) σ) else (if (f_isLetter v2) = x2 then (f_go_272 n k215 x2 v2 (1 : Int32) σ) else (f_go_272 n k215 x2 v2 (0 : Int32) σ)) else none
set_option maxHeartbeats 4000000 in
theorem w_go_243 {K : KT} {M : MT} {τ : MS} (n : Nat) (k215 : Int32 → Int32 → MS → Option MS) (C : Kok K cX10_go 5 RX10) (B : MB K M) (hr : (kMe K).sig.returnType = none) (dK : kR K = rmD 2) (hQ : KQm K M none τ)  (hk215 : ∀ (x2 : Int32) (x3 : Int32) (σ : MS), k215 x2 x3 σ = some τ → XJ K 5 (Wm K M σ) 215 [(0, .ref (mO M)), (2, .int x2), (3, .int x3)] []) (x2 : Int32) (x3 : Int32) (σ : MS) (hf : f_go_243 n k215 x2 x3 σ = some τ) : XJ K 5 (Wm K M σ) 243 [(0, .ref (mO M)), (2, .int x2), (3, .int x3)] [] := by
  unfold f_go_243 at hf
  refine x_aload_n C dX10_go_243 0 rfl ?_
  refine mg_1 C B dX10_go_244 ?_
  refine x_aload_n C dX10_go_247 0 rfl ?_
  refine mg_5 C B dX10_go_248 ?_
  obtain ⟨h1, hf⟩ := pf_in hf
  refine ml_1 C B h1 dX10_go_251 ?_
  obtain ⟨v2, ev2, hf⟩ := pf_e hf
  refine x_topir ev2 ?_
  refine x_istore (L' := [(0, .ref (mO M)), (2, .int x2), (3, .int x3), (4, .int v2)]) C dX10_go_252 (Nat.le_of_ble_eq_true rfl) [1, 2, 3, 0] rfl ?_
  refine x_iload_n C dX10_go_254 2 rfl ?_
  refine x_if_eq (tgt := 271) C dX10_go_255 (by decide) (fun c3 => ?_) (fun c3 => ?_)
  · have hf := pf_t c3 hf
    refine x_iconst (0 : Int32) C dX10_go_271 (by decide) ?_
    refine x_sub [0, 1, 3] (L' := [(0, .ref (mO M)), (2, .int x2), (4, .int v2)]) rfl ?_
    exact w_go_272 n _ C B hr dK hQ hk215 x2 v2 (0 : Int32) _ hf
  · have hf := pf_f c3 hf
    refine x_iload C dX10_go_258 3 rfl ?_
    refine mc_isLetter C B dK (Nat.le_of_ble_eq_true rfl) rfl (Nat.le_of_ble_eq_true rfl) dX10_go_260 ?_
    refine x_iload_n C dX10_go_263 1 rfl ?_
    refine x_icmp_ne (tgt := 271) C dX10_go_264 (by decide) (fun c4 => ?_) (fun c4 => ?_)
    · have hf := pf_f c4 hf
      refine x_iconst (0 : Int32) C dX10_go_271 (by decide) ?_
      refine x_sub [0, 1, 3] (L' := [(0, .ref (mO M)), (2, .int x2), (4, .int v2)]) rfl ?_
      exact w_go_272 n _ C B hr dK hQ hk215 x2 v2 (0 : Int32) _ hf
    · have hf := pf_t c4 hf
      refine x_iconst (1 : Int32) C dX10_go_267 (by decide) ?_
      refine x_goto (tgt := 272) C dX10_go_268 (by decide) ?_
      refine x_sub [0, 1, 3] (L' := [(0, .ref (mO M)), (2, .int x2), (4, .int v2)]) rfl ?_
      exact w_go_272 n _ C B hr dK hQ hk215 x2 v2 (1 : Int32) _ hf
def f_go_215 (n : Nat) : Nat → Int32 → Int32 → MS → Option MS
  | 0, _, _, _ => none
  | m + 1, x2, x3, σ => (f_tapeAt σ (gi σ 5)).bind fun r1 => if (f_isLetter r1) = 0 then ((f_tapeAt σ (gi σ 5)).bind fun r3 => if (f_isDigit r3) = 0 then (if x3 = 0 then (ev (si σ 7 (1 : Int32)) fun s6 => some s6) else (if x2 = 0 then (if ((gi σ 5) - (gi σ 6)) ≤ (3 : Int32) then (if x2 = 0 then (ev (si σ 7 (3 : Int32)) fun s10 => some s10) else (ev (si σ 7 (2 : Int32)) fun s11 => some s11)) else (ev (si σ 7 (1 : Int32)) fun s12 => some s12)) else (if ((gi σ 5) - (gi σ 6)) ≤ (7 : Int32) then (if x2 = 0 then (ev (si σ 7 (3 : Int32)) fun s15 => some s15) else (ev (si σ 7 (2 : Int32)) fun s16 => some s16)) else (ev (si σ 7 (1 : Int32)) fun s17 => some s17)))) else (f_go_243 n (f_go_215 n m) x2 x3 σ)) else (f_go_243 n (f_go_215 n m) x2 x3 σ)
set_option maxHeartbeats 4000000 in
theorem w_go_215 {K : KT} {M : MT} {τ : MS} (n : Nat) (C : Kok K cX10_go 5 RX10) (B : MB K M) (hr : (kMe K).sig.returnType = none) (dK : kR K = rmD 2) (hQ : KQm K M none τ) : ∀ (m : Nat) (x2 : Int32) (x3 : Int32) (σ : MS) (hf : f_go_215 n m x2 x3 σ = some τ), XJ K 5 (Wm K M σ) 215 [(0, .ref (mO M)), (2, .int x2), (3, .int x3)] [] := by
  intro m
  induction m with
  | zero => intro x2 x3 σ hf; cases hf
  | succ m ih =>
    intro x2 x3 σ hf
    rw [f_go_215] at hf
    refine x_aload_n C dX10_go_215 0 rfl ?_
    refine x_aload_n C dX10_go_216 0 rfl ?_
    refine mg_5 C B dX10_go_217 ?_
    obtain ⟨r1, er1, hf⟩ := pf_b hf
    refine mc_tapeAt C B dK (Nat.le_of_ble_eq_true rfl) er1 (Nat.le_of_ble_eq_true rfl) dX10_go_220 ?_
    refine mc_isLetter C B dK (Nat.le_of_ble_eq_true rfl) rfl (Nat.le_of_ble_eq_true rfl) dX10_go_223 ?_
    refine x_if_ne (tgt := 243) C dX10_go_226 (by decide) (fun c2 => ?_) (fun c2 => ?_)
    · have hf := pf_f c2 hf
      exact w_go_243 n _ C B hr dK hQ ih x2 x3 _ hf
    · have hf := pf_t c2 hf
      refine x_aload_n C dX10_go_229 0 rfl ?_
      refine x_aload_n C dX10_go_230 0 rfl ?_
      refine mg_5 C B dX10_go_231 ?_
      obtain ⟨r3, er3, hf⟩ := pf_b hf
      refine mc_tapeAt C B dK (Nat.le_of_ble_eq_true rfl) er3 (Nat.le_of_ble_eq_true rfl) dX10_go_234 ?_
      refine mc_isDigit C B dK (Nat.le_of_ble_eq_true rfl) rfl (Nat.le_of_ble_eq_true rfl) dX10_go_237 ?_
      refine x_if_eq (tgt := 350) C dX10_go_240 (by decide) (fun c4 => ?_) (fun c4 => ?_)
      · have hf := pf_t c4 hf
        refine x_aload_n C dX10_go_350 0 rfl ?_
        refine x_iload_n C dX10_go_351 2 rfl ?_
        refine x_if_eq (tgt := 377) C dX10_go_352 (by decide) (fun c5 => ?_) (fun c5 => ?_)
        · have hf := pf_t c5 hf
          refine x_iconst (1 : Int32) C dX10_go_377 (by decide) ?_
          refine x_goto (tgt := 390) C dX10_go_378 (by decide) ?_
          refine mp_7 C B dX10_go_390 ?_
          obtain ⟨s6, es6, hf⟩ := pf_e hf
          refine m_ren es6 ?_
          obtain rfl := Option.some.inj hf
          exact m_vret C hr hQ dX10_go_393
        · have hf := pf_f c5 hf
          refine x_aload_n C dX10_go_355 0 rfl ?_
          refine mg_5 C B dX10_go_356 ?_
          refine x_aload_n C dX10_go_359 0 rfl ?_
          refine mg_6 C B dX10_go_360 ?_
          refine x_isub C dX10_go_363 ?_
          refine x_iload_n C dX10_go_364 1 rfl ?_
          refine x_if_eq (tgt := 373) C dX10_go_365 (by decide) (fun c7 => ?_) (fun c7 => ?_)
          · have hf := pf_t c7 hf
            refine x_iconst (3 : Int32) C dX10_go_373 (by decide) ?_
            refine x_icmp_le (tgt := 381) C dX10_go_374 (by decide) (fun c8 => ?_) (fun c8 => ?_)
            · have hf := pf_t c8 hf
              refine x_iload_n C dX10_go_381 1 rfl ?_
              refine x_if_eq (tgt := 389) C dX10_go_382 (by decide) (fun c9 => ?_) (fun c9 => ?_)
              · have hf := pf_t c9 hf
                refine x_iconst (3 : Int32) C dX10_go_389 (by decide) ?_
                refine mp_7 C B dX10_go_390 ?_
                obtain ⟨s10, es10, hf⟩ := pf_e hf
                refine m_ren es10 ?_
                obtain rfl := Option.some.inj hf
                exact m_vret C hr hQ dX10_go_393
              · have hf := pf_f c9 hf
                refine x_iconst (2 : Int32) C dX10_go_385 (by decide) ?_
                refine x_goto (tgt := 390) C dX10_go_386 (by decide) ?_
                refine mp_7 C B dX10_go_390 ?_
                obtain ⟨s11, es11, hf⟩ := pf_e hf
                refine m_ren es11 ?_
                obtain rfl := Option.some.inj hf
                exact m_vret C hr hQ dX10_go_393
            · have hf := pf_f c8 hf
              refine x_iconst (1 : Int32) C dX10_go_377 (by decide) ?_
              refine x_goto (tgt := 390) C dX10_go_378 (by decide) ?_
              refine mp_7 C B dX10_go_390 ?_
              obtain ⟨s12, es12, hf⟩ := pf_e hf
              refine m_ren es12 ?_
              obtain rfl := Option.some.inj hf
              exact m_vret C hr hQ dX10_go_393
          · have hf := pf_f c7 hf
            refine x_bipush (7 : Int32) C dX10_go_368 (by decide) ?_
            refine x_goto (tgt := 374) C dX10_go_370 (by decide) ?_
            refine x_icmp_le (tgt := 381) C dX10_go_374 (by decide) (fun c13 => ?_) (fun c13 => ?_)
            · have hf := pf_t c13 hf
              refine x_iload_n C dX10_go_381 1 rfl ?_
              refine x_if_eq (tgt := 389) C dX10_go_382 (by decide) (fun c14 => ?_) (fun c14 => ?_)
              · have hf := pf_t c14 hf
                refine x_iconst (3 : Int32) C dX10_go_389 (by decide) ?_
                refine mp_7 C B dX10_go_390 ?_
                obtain ⟨s15, es15, hf⟩ := pf_e hf
                refine m_ren es15 ?_
                obtain rfl := Option.some.inj hf
                exact m_vret C hr hQ dX10_go_393
              · have hf := pf_f c14 hf
                refine x_iconst (2 : Int32) C dX10_go_385 (by decide) ?_
                refine x_goto (tgt := 390) C dX10_go_386 (by decide) ?_
                refine mp_7 C B dX10_go_390 ?_
                obtain ⟨s16, es16, hf⟩ := pf_e hf
                refine m_ren es16 ?_
                obtain rfl := Option.some.inj hf
                exact m_vret C hr hQ dX10_go_393
            · have hf := pf_f c13 hf
              refine x_iconst (1 : Int32) C dX10_go_377 (by decide) ?_
              refine x_goto (tgt := 390) C dX10_go_378 (by decide) ?_
              refine mp_7 C B dX10_go_390 ?_
              obtain ⟨s17, es17, hf⟩ := pf_e hf
              refine m_ren es17 ?_
              obtain rfl := Option.some.inj hf
              exact m_vret C hr hQ dX10_go_393
      · have hf := pf_f c4 hf
        exact w_go_243 n _ C B hr dK hQ ih x2 x3 _ hf
def f_go_198 (n : Nat) (x1 : Int32) (σ : MS) : Option MS := ev (f_isLetter x1) fun v1 => ev (sl σ 12 (0 : Int64)) fun s2 => ev (si s2 8 (0 : Int32)) fun s3 => f_go_215 n n v1 (1 : Int32) s3
set_option maxHeartbeats 4000000 in
theorem w_go_198 {K : KT} {M : MT} {τ : MS} (n : Nat) (C : Kok K cX10_go 5 RX10) (B : MB K M) (hr : (kMe K).sig.returnType = none) (dK : kR K = rmD 2) (hQ : KQm K M none τ) (x1 : Int32) (σ : MS) (hf : f_go_198 n x1 σ = some τ) : XJ K 5 (Wm K M σ) 198 [(0, .ref (mO M)), (1, .int x1)] [] := by
  unfold f_go_198 at hf
  refine x_iload_n C dX10_go_198 1 rfl ?_
  refine mc_isLetter C B dK (Nat.le_of_ble_eq_true rfl) rfl (Nat.le_of_ble_eq_true rfl) dX10_go_199 ?_
  obtain ⟨v1, ev1, hf⟩ := pf_e hf
  refine x_topir ev1 ?_
  refine x_istore_n (L' := [(0, .ref (mO M)), (2, .int v1)]) C dX10_go_202 (Nat.le_of_ble_eq_true rfl) [1, 0] rfl ?_
  refine x_iconst (1 : Int32) C dX10_go_203 (by decide) ?_
  refine x_istore_n (L' := [(0, .ref (mO M)), (2, .int v1), (3, .int (1 : Int32))]) C dX10_go_204 (Nat.le_of_ble_eq_true rfl) [1, 2, 0] rfl ?_
  refine x_aload_n C dX10_go_205 0 rfl ?_
  refine x_lconst (0 : Int64) C dX10_go_206 (by decide) ?_
  refine mp_12 C B dX10_go_207 ?_
  obtain ⟨s2, es2, hf⟩ := pf_e hf
  refine m_ren es2 ?_
  refine x_aload_n C dX10_go_210 0 rfl ?_
  refine x_iconst (0 : Int32) C dX10_go_211 (by decide) ?_
  refine mp_8 C B dX10_go_212 ?_
  obtain ⟨s3, es3, hf⟩ := pf_e hf
  refine m_ren es3 ?_
  exact w_go_215 n C B hr dK hQ n v1 (1 : Int32) _ hf
def f_go_96 (n : Nat) (σ : MS) : Option MS := if (gi σ 5) < (gi σ 3) then (if inb (gi σ 5) 940 = true then ev (ga σ 1 (Int32.toNatClampNeg (gi σ 5))) fun v3 => if (f_isLetter v3) = 0 then (if (f_isDigit v3) = 0 then (if v3 = (59 : Int32) then (f_go_179 n v3 (4 : Int32) σ) else (if v3 = (60 : Int32) then (f_go_179 n v3 (4 : Int32) σ) else (if v3 = (61 : Int32) then (f_go_179 n v3 (4 : Int32) σ) else (if v3 = (62 : Int32) then (f_go_179 n v3 (4 : Int32) σ) else (if v3 = (40 : Int32) then (f_go_179 n v3 (4 : Int32) σ) else (if v3 = (41 : Int32) then (f_go_179 n v3 (4 : Int32) σ) else (f_go_179 n v3 (1 : Int32) σ))))))) else (f_go_198 n v3 σ)) else (f_go_198 n v3 σ) else none) else (ev (si σ 7 (0 : Int32)) fun s12 => some s12)
set_option maxHeartbeats 4000000 in
theorem w_go_96 {K : KT} {M : MT} {τ : MS} (n : Nat) (C : Kok K cX10_go 5 RX10) (B : MB K M) (hr : (kMe K).sig.returnType = none) (dK : kR K = rmD 2) (hQ : KQm K M none τ) (σ : MS) (hf : f_go_96 n σ = some τ) : XJ K 5 (Wm K M σ) 96 [(0, .ref (mO M))] [] := by
  unfold f_go_96 at hf
  refine x_aload_n C dX10_go_96 0 rfl ?_
  refine mg_5 C B dX10_go_97 ?_
  refine x_aload_n C dX10_go_100 0 rfl ?_
  refine mg_3 C B dX10_go_101 ?_
  refine x_icmp_lt (tgt := 113) C dX10_go_104 (by decide) (fun c1 => ?_) (fun c1 => ?_)
  · have hf := pf_t c1 hf
    refine x_aload_n C dX10_go_113 0 rfl ?_
    refine mg_1 C B dX10_go_114 ?_
    refine x_aload_n C dX10_go_117 0 rfl ?_
    refine mg_5 C B dX10_go_118 ?_
    obtain ⟨h2, hf⟩ := pf_in hf
    refine ml_1 C B h2 dX10_go_121 ?_
    obtain ⟨v3, ev3, hf⟩ := pf_e hf
    refine x_topir ev3 ?_
    refine x_istore_n (L' := [(0, .ref (mO M)), (1, .int v3)]) C dX10_go_122 (Nat.le_of_ble_eq_true rfl) [1, 0] rfl ?_
    refine x_iload_n C dX10_go_123 1 rfl ?_
    refine mc_isLetter C B dK (Nat.le_of_ble_eq_true rfl) rfl (Nat.le_of_ble_eq_true rfl) dX10_go_124 ?_
    refine x_if_ne (tgt := 198) C dX10_go_127 (by decide) (fun c4 => ?_) (fun c4 => ?_)
    · have hf := pf_f c4 hf
      exact w_go_198 n C B hr dK hQ v3 _ hf
    · have hf := pf_t c4 hf
      refine x_iload_n C dX10_go_130 1 rfl ?_
      refine mc_isDigit C B dK (Nat.le_of_ble_eq_true rfl) rfl (Nat.le_of_ble_eq_true rfl) dX10_go_131 ?_
      refine x_if_ne (tgt := 198) C dX10_go_134 (by decide) (fun c5 => ?_) (fun c5 => ?_)
      · have hf := pf_f c5 hf
        exact w_go_198 n C B hr dK hQ v3 _ hf
      · have hf := pf_t c5 hf
        refine x_aload_n C dX10_go_137 0 rfl ?_
        refine x_iload_n C dX10_go_138 1 rfl ?_
        refine x_bipush (59 : Int32) C dX10_go_139 (by decide) ?_
        refine x_icmp_eq (tgt := 174) C dX10_go_141 (by decide) (fun c6 => ?_) (fun c6 => ?_)
        · have hf := pf_t c6 hf
          refine x_iconst (4 : Int32) C dX10_go_174 (by decide) ?_
          refine x_goto (tgt := 179) C dX10_go_175 (by decide) ?_
          exact w_go_179 n C B hr dK hQ v3 (4 : Int32) _ hf
        · have hf := pf_f c6 hf
          refine x_iload_n C dX10_go_144 1 rfl ?_
          refine x_bipush (60 : Int32) C dX10_go_145 (by decide) ?_
          refine x_icmp_eq (tgt := 174) C dX10_go_147 (by decide) (fun c7 => ?_) (fun c7 => ?_)
          · have hf := pf_t c7 hf
            refine x_iconst (4 : Int32) C dX10_go_174 (by decide) ?_
            refine x_goto (tgt := 179) C dX10_go_175 (by decide) ?_
            exact w_go_179 n C B hr dK hQ v3 (4 : Int32) _ hf
          · have hf := pf_f c7 hf
            refine x_iload_n C dX10_go_150 1 rfl ?_
            refine x_bipush (61 : Int32) C dX10_go_151 (by decide) ?_
            refine x_icmp_eq (tgt := 174) C dX10_go_153 (by decide) (fun c8 => ?_) (fun c8 => ?_)
            · have hf := pf_t c8 hf
              refine x_iconst (4 : Int32) C dX10_go_174 (by decide) ?_
              refine x_goto (tgt := 179) C dX10_go_175 (by decide) ?_
              exact w_go_179 n C B hr dK hQ v3 (4 : Int32) _ hf
            · have hf := pf_f c8 hf
              refine x_iload_n C dX10_go_156 1 rfl ?_
              refine x_bipush (62 : Int32) C dX10_go_157 (by decide) ?_
              refine x_icmp_eq (tgt := 174) C dX10_go_159 (by decide) (fun c9 => ?_) (fun c9 => ?_)
              · have hf := pf_t c9 hf
                refine x_iconst (4 : Int32) C dX10_go_174 (by decide) ?_
                refine x_goto (tgt := 179) C dX10_go_175 (by decide) ?_
                exact w_go_179 n C B hr dK hQ v3 (4 : Int32) _ hf
              · have hf := pf_f c9 hf
                refine x_iload_n C dX10_go_162 1 rfl ?_
                refine x_bipush (40 : Int32) C dX10_go_163 (by decide) ?_
                refine x_icmp_eq (tgt := 174) C dX10_go_165 (by decide) (fun c10 => ?_) (fun c10 => ?_)
                · have hf := pf_t c10 hf
                  refine x_iconst (4 : Int32) C dX10_go_174 (by decide) ?_
                  refine x_goto (tgt := 179) C dX10_go_175 (by decide) ?_
                  exact w_go_179 n C B hr dK hQ v3 (4 : Int32) _ hf
                · have hf := pf_f c10 hf
                  refine x_iload_n C dX10_go_168 1 rfl ?_
                  refine x_bipush (41 : Int32) C dX10_go_169 (by decide) ?_
                  refine x_icmp_ne (tgt := 178) C dX10_go_171 (by decide) (fun c11 => ?_) (fun c11 => ?_)
                  · have hf := pf_f c11 hf
                    refine x_iconst (1 : Int32) C dX10_go_178 (by decide) ?_
                    exact w_go_179 n C B hr dK hQ v3 (1 : Int32) _ hf
                  · have hf := pf_t c11 hf
                    refine x_iconst (4 : Int32) C dX10_go_174 (by decide) ?_
                    refine x_goto (tgt := 179) C dX10_go_175 (by decide) ?_
                    exact w_go_179 n C B hr dK hQ v3 (4 : Int32) _ hf
  · have hf := pf_f c1 hf
    refine x_aload_n C dX10_go_107 0 rfl ?_
    refine x_iconst (0 : Int32) C dX10_go_108 (by decide) ?_
    refine mp_7 C B dX10_go_109 ?_
    obtain ⟨s12, es12, hf⟩ := pf_e hf
    refine m_ren es12 ?_
    obtain rfl := Option.some.inj hf
    exact m_vret C hr hQ dX10_go_112
def f_go_52 (n : Nat) (σ : MS) : Option MS := ev (si σ 6 (gi σ 5)) fun s1 => if (gi s1 3) ≤ (gi s1 4) then (f_go_96 n s1) else (if (gi s1 6) < (gi s1 4) then (f_go_96 n s1) else (ev (si s1 6 (gi s1 4)) fun s4 => ev (si s4 7 (1 : Int32)) fun s5 => some s5))
set_option maxHeartbeats 4000000 in
theorem w_go_52 {K : KT} {M : MT} {τ : MS} (n : Nat) (C : Kok K cX10_go 5 RX10) (B : MB K M) (hr : (kMe K).sig.returnType = none) (dK : kR K = rmD 2) (hQ : KQm K M none τ) (σ : MS) (hf : f_go_52 n σ = some τ) : XJ K 5 (Wm K M σ) 52 [(0, .ref (mO M))] [] := by
  unfold f_go_52 at hf
  refine x_aload_n C dX10_go_52 0 rfl ?_
  refine x_aload_n C dX10_go_53 0 rfl ?_
  refine mg_5 C B dX10_go_54 ?_
  refine mp_6 C B dX10_go_57 ?_
  obtain ⟨s1, es1, hf⟩ := pf_e hf
  refine m_ren es1 ?_
  refine x_aload_n C dX10_go_60 0 rfl ?_
  refine mg_3 C B dX10_go_61 ?_
  refine x_aload_n C dX10_go_64 0 rfl ?_
  refine mg_4 C B dX10_go_65 ?_
  refine x_icmp_le (tgt := 96) C dX10_go_68 (by decide) (fun c2 => ?_) (fun c2 => ?_)
  · have hf := pf_t c2 hf
    exact w_go_96 n C B hr dK hQ _ hf
  · have hf := pf_f c2 hf
    refine x_aload_n C dX10_go_71 0 rfl ?_
    refine mg_6 C B dX10_go_72 ?_
    refine x_aload_n C dX10_go_75 0 rfl ?_
    refine mg_4 C B dX10_go_76 ?_
    refine x_icmp_lt (tgt := 96) C dX10_go_79 (by decide) (fun c3 => ?_) (fun c3 => ?_)
    · have hf := pf_t c3 hf
      exact w_go_96 n C B hr dK hQ _ hf
    · have hf := pf_f c3 hf
      refine x_aload_n C dX10_go_82 0 rfl ?_
      refine x_aload_n C dX10_go_83 0 rfl ?_
      refine mg_4 C B dX10_go_84 ?_
      refine mp_6 C B dX10_go_87 ?_
      obtain ⟨s4, es4, hf⟩ := pf_e hf
      refine m_ren es4 ?_
      refine x_aload_n C dX10_go_90 0 rfl ?_
      refine x_iconst (1 : Int32) C dX10_go_91 (by decide) ?_
      refine mp_7 C B dX10_go_92 ?_
      obtain ⟨s5, es5, hf⟩ := pf_e hf
      refine m_ren es5 ?_
      obtain rfl := Option.some.inj hf
      exact m_vret C hr hQ dX10_go_95
def f_go_0 (n : Nat) : Nat → MS → Option MS
  | 0, _ => none
  | m + 1, σ => if (gi σ 3) ≤ (gi σ 5) then (f_go_52 n σ) else (if inb (gi σ 5) 940 = true then if (ga σ 1 (Int32.toNatClampNeg (gi σ 5))) = (32 : Int32) then (ev (si σ 5 ((gi σ 5) + (1 : Int32))) fun s4 => f_go_0 n m s4) else (if inb (gi σ 5) 940 = true then if (ga σ 1 (Int32.toNatClampNeg (gi σ 5))) = (10 : Int32) then (ev (si σ 5 ((gi σ 5) + (1 : Int32))) fun s7 => f_go_0 n m s7) else (f_go_52 n σ) else none) else none)
set_option maxHeartbeats 4000000 in
theorem w_go_0 {K : KT} {M : MT} {τ : MS} (n : Nat) (C : Kok K cX10_go 5 RX10) (B : MB K M) (hr : (kMe K).sig.returnType = none) (dK : kR K = rmD 2) (hQ : KQm K M none τ) : ∀ (m : Nat) (σ : MS) (hf : f_go_0 n m σ = some τ), XJ K 5 (Wm K M σ) 0 [(0, .ref (mO M))] [] := by
  intro m
  induction m with
  | zero => intro σ hf; cases hf
  | succ m ih =>
    intro σ hf
    rw [f_go_0] at hf
    refine x_aload_n C dX10_go_0 0 rfl ?_
    refine mg_5 C B dX10_go_1 ?_
    refine x_aload_n C dX10_go_4 0 rfl ?_
    refine mg_3 C B dX10_go_5 ?_
    refine x_icmp_ge (tgt := 52) C dX10_go_8 (by decide) (fun c1 => ?_) (fun c1 => ?_)
    · have hf := pf_t c1 hf
      exact w_go_52 n C B hr dK hQ _ hf
    · have hf := pf_f c1 hf
      refine x_aload_n C dX10_go_11 0 rfl ?_
      refine mg_1 C B dX10_go_12 ?_
      refine x_aload_n C dX10_go_15 0 rfl ?_
      refine mg_5 C B dX10_go_16 ?_
      obtain ⟨h2, hf⟩ := pf_in hf
      refine ml_1 C B h2 dX10_go_19 ?_
      refine x_bipush (32 : Int32) C dX10_go_20 (by decide) ?_
      refine x_icmp_eq (tgt := 39) C dX10_go_22 (by decide) (fun c3 => ?_) (fun c3 => ?_)
      · have hf := pf_t c3 hf
        refine x_aload_n C dX10_go_39 0 rfl ?_
        refine x_dup C dX10_go_40 rfl ?_
        refine mg_5 C B dX10_go_41 ?_
        refine x_iconst (1 : Int32) C dX10_go_44 (by decide) ?_
        refine x_iadd C dX10_go_45 ?_
        refine mp_5 C B dX10_go_46 ?_
        obtain ⟨s4, es4, hf⟩ := pf_e hf
        refine m_ren es4 ?_
        refine x_goto (tgt := 0) C dX10_go_49 (by decide) ?_
        exact ih _ hf
      · have hf := pf_f c3 hf
        refine x_aload_n C dX10_go_25 0 rfl ?_
        refine mg_1 C B dX10_go_26 ?_
        refine x_aload_n C dX10_go_29 0 rfl ?_
        refine mg_5 C B dX10_go_30 ?_
        obtain ⟨h5, hf⟩ := pf_in hf
        refine ml_1 C B h5 dX10_go_33 ?_
        refine x_bipush (10 : Int32) C dX10_go_34 (by decide) ?_
        refine x_icmp_ne (tgt := 52) C dX10_go_36 (by decide) (fun c6 => ?_) (fun c6 => ?_)
        · have hf := pf_f c6 hf
          exact w_go_52 n C B hr dK hQ _ hf
        · have hf := pf_t c6 hf
          refine x_aload_n C dX10_go_39 0 rfl ?_
          refine x_dup C dX10_go_40 rfl ?_
          refine mg_5 C B dX10_go_41 ?_
          refine x_iconst (1 : Int32) C dX10_go_44 (by decide) ?_
          refine x_iadd C dX10_go_45 ?_
          refine mp_5 C B dX10_go_46 ?_
          obtain ⟨s7, es7, hf⟩ := pf_e hf
          refine m_ren es7 ?_
          refine x_goto (tgt := 0) C dX10_go_49 (by decide) ?_
          exact ih _ hf
def f_go (n : Nat) (σ : MS) : Option MS := f_go_0 n n σ
set_option maxHeartbeats 4000000 in
theorem w_go_E {K : KT} {M : MT} {τ : MS} (n : Nat) (C : Kok K cX10_go 5 RX10) (B : MB K M) (hr : (kMe K).sig.returnType = none) (dK : kR K = rmD 2) (hQ : KQm K M none τ) (σ : MS) (hf : f_go n σ = some τ) : XJ K 5 (Wm K M σ) 0 [(0, .ref (mO M))] [] := by
  unfold f_go at hf
  exact w_go_0 n C B hr dK hQ n _ hf
theorem met_go {M : MT} {v : MS} {n : Nat} {σ : MS} {l : Launch} (hc : (mCl M)[mCi M]? = some (RX10, TX10, 61)) (hf : f_go n σ = some v) : Met l yX10_go (ws_ yX10_go cX10_go 5 none) (rmD 2) (va_Pc [.ref (mO M)] (MU M σ)) (Qm M none v) 0 0 (mAd M) :=
  m_met [.ref (mO M)] (by decide) rfl (Nat.le_of_ble_eq_true rfl) hc (fun K hl hR hr C B hQ => w_go_E _ C B hr hR hQ _ hf)
theorem mc_go {K : KT} {M : MT} {cc : ByteArray} {nL pc dk : Nat} {L : List (Nat × Value)} {rest : List Value} {σ : MS} {v : MS} {n : Nat} (C : Kok K cc nL RX10) (B : MB K M) (dK : kR K = rmD dk) (hd : 2 + 1 ≤ dk) (hf : f_go n σ = some v) (hW : (rest.map fun v => v.category).sum ≤ 8) (dd : decode cc pc = .ok (.invokevirtual 82, 3)) (kk2 : XJ K nL (Wm K M v) (pc + 3) L (rest)) : XJ K nL (Wm K M σ) pc L (.ref (mO M) :: rest) :=
  m_callV (rest := rest) (v := none) [] 0 rfl C B dK hd (Nat.le_of_ble_eq_true rfl) (lw_V q1993 q1995 qs43 q133 q1996) (by decide +kernel) (met_go B.2 hf) rfl hW dd kk2
def f_take (σ : MS) : (Int32 × MS) := ev (gi σ 2) fun v1 => ev (si σ 2 (0 : Int32)) fun s2 => (v1, s2)
set_option maxHeartbeats 4000000 in
theorem w_take_E {K : KT} {M : MT} {r : Int32} {τ : MS} (C : Kok K cX10_take 2 RX10) (B : MB K M) (hr : (kMe K).sig.returnType = some .int) (dK : kR K = rmD 1) (hQ : KQm K M (some (.int r)) τ) (σ : MS) (hf : f_take σ = (r, τ)) : XJ K 2 (Wm K M σ) 0 [(0, .ref (mO M))] [] := by
  unfold f_take at hf
  refine x_aload_n C dX10_take_0 0 rfl ?_
  refine mg_2 C B dX10_take_1 ?_
  obtain ⟨v1, ev1, hf⟩ := pf_e hf
  refine x_topir ev1 ?_
  refine x_istore_n (L' := [(0, .ref (mO M)), (1, .int v1)]) C dX10_take_4 (Nat.le_of_ble_eq_true rfl) [1, 0] rfl ?_
  refine x_aload_n C dX10_take_5 0 rfl ?_
  refine x_iconst (0 : Int32) C dX10_take_6 (by decide) ?_
  refine mp_2 C B dX10_take_7 ?_
  obtain ⟨s2, es2, hf⟩ := pf_e hf
  refine m_ren es2 ?_
  refine x_iload_n C dX10_take_10 1 rfl ?_
  obtain ⟨rfl, rfl⟩ := Prod.mk.inj hf
  exact m_iret C hr hQ dX10_take_11
theorem met_take {M : MT} {v : (Int32 × MS)} {σ : MS} {l : Launch} (hc : (mCl M)[mCi M]? = some (RX10, TX10, 61)) (hf : f_take σ = v) : Met l yX10_take (ws_ yX10_take cX10_take 2 (some .int)) (rmD 1) (va_Pc [.ref (mO M)] (MU M σ)) (Qm M (some (.int v.1)) v.2) 0 0 (mAd M) :=
  m_met [.ref (mO M)] (by decide) rfl (Nat.le_of_ble_eq_true rfl) hc (fun K hl hR hr C B hQ => w_take_E C B hr hR hQ _ hf)
theorem mc_take {K : KT} {M : MT} {cc : ByteArray} {nL pc dk : Nat} {L : List (Nat × Value)} {rest : List Value} {σ : MS} {v : (Int32 × MS)} (C : Kok K cc nL RX10) (B : MB K M) (dK : kR K = rmD dk) (hd : 1 + 1 ≤ dk) (hf : f_take σ = v) (hW : (rest.map fun v => v.category).sum ≤ 8) (dd : decode cc pc = .ok (.invokevirtual 89, 3)) (kk2 : XJ K nL (Wm K M v.2) (pc + 3) L ((.int v.1) :: rest)) : XJ K nL (Wm K M σ) pc L (.ref (mO M) :: rest) :=
  m_callV (rest := rest) (v := (some (.int v.1))) [] 0 rfl C B dK hd (Nat.le_of_ble_eq_true rfl) (lw_V q1989 q1991 qs42 q133 q1992) (by decide +kernel) (met_take B.2 hf) rfl hW dd kk2
def f_begin (n : Nat) (x1 : Int32) (σ : MS) : Option MS := ev (si σ 0 (0 : Int32)) fun s1 => ev (f_take s1) fun r2 => ev (si r2.2 3 r2.1) fun s3 => ev (si s3 4 x1) fun s4 => ev (si s4 10 (0 : Int32)) fun s5 => ev (si s5 5 (0 : Int32)) fun s6 => (f_go n s6).bind fun r7 => some r7
set_option maxHeartbeats 4000000 in
theorem w_begin_E {K : KT} {M : MT} {τ : MS} (n : Nat) (C : Kok K cX10_begin 2 RX10) (B : MB K M) (hr : (kMe K).sig.returnType = none) (dK : kR K = rmD 3) (hQ : KQm K M none τ) (x1 : Int32) (σ : MS) (hf : f_begin n x1 σ = some τ) : XJ K 2 (Wm K M σ) 0 [(0, .ref (mO M)), (1, .int x1)] [] := by
  unfold f_begin at hf
  refine x_aload_n C dX10_begin_0 0 rfl ?_
  refine x_iconst (0 : Int32) C dX10_begin_1 (by decide) ?_
  refine mp_0 C B dX10_begin_2 ?_
  obtain ⟨s1, es1, hf⟩ := pf_e hf
  refine m_ren es1 ?_
  refine x_aload_n C dX10_begin_5 0 rfl ?_
  refine x_aload_n C dX10_begin_6 0 rfl ?_
  obtain ⟨r2, er2, hf⟩ := pf_e hf
  refine mc_take C B dK (Nat.le_of_ble_eq_true rfl) er2.symm (Nat.le_of_ble_eq_true rfl) dX10_begin_7 ?_
  refine mp_3 C B dX10_begin_10 ?_
  obtain ⟨s3, es3, hf⟩ := pf_e hf
  refine m_ren es3 ?_
  refine x_aload_n C dX10_begin_13 0 rfl ?_
  refine x_iload_n C dX10_begin_14 1 rfl ?_
  refine mp_4 C B dX10_begin_15 ?_
  obtain ⟨s4, es4, hf⟩ := pf_e hf
  refine m_ren es4 ?_
  refine x_aload_n C dX10_begin_18 0 rfl ?_
  refine x_iconst (0 : Int32) C dX10_begin_19 (by decide) ?_
  refine mp_10 C B dX10_begin_20 ?_
  obtain ⟨s5, es5, hf⟩ := pf_e hf
  refine m_ren es5 ?_
  refine x_aload_n C dX10_begin_23 0 rfl ?_
  refine x_iconst (0 : Int32) C dX10_begin_24 (by decide) ?_
  refine mp_5 C B dX10_begin_25 ?_
  obtain ⟨s6, es6, hf⟩ := pf_e hf
  refine m_ren es6 ?_
  refine x_aload_n C dX10_begin_28 0 rfl ?_
  obtain ⟨r7, er7, hf⟩ := pf_b hf
  refine mc_go C B dK (Nat.le_of_ble_eq_true rfl) er7 (Nat.le_of_ble_eq_true rfl) dX10_begin_29 ?_
  obtain rfl := Option.some.inj hf
  exact m_vret C hr hQ dX10_begin_32
theorem met_begin {M : MT} {v : MS} {n : Nat} {σ : MS} {x1 : Int32} {l : Launch} (hc : (mCl M)[mCi M]? = some (RX10, TX10, 61)) (hf : f_begin n x1 σ = some v) : Met l yX10_begin (ws_ yX10_begin cX10_begin 2 none) (rmD 3) (va_Pc [.ref (mO M), .int x1] (MU M σ)) (Qm M none v) 0 0 (mAd M) :=
  m_met [.ref (mO M), .int x1] (by decide) rfl (Nat.le_of_ble_eq_true rfl) hc (fun K hl hR hr C B hQ => w_begin_E _ C B hr hR hQ _ _ hf)
theorem mc_begin {K : KT} {M : MT} {cc : ByteArray} {nL pc dk : Nat} {L : List (Nat × Value)} {rest : List Value} {σ : MS} {v : MS} {n : Nat} {x1 : Int32} (C : Kok K cc nL RX10) (B : MB K M) (dK : kR K = rmD dk) (hd : 3 + 1 ≤ dk) (hf : f_begin n x1 σ = some v) (hW : (rest.map fun v => v.category).sum ≤ 8) (dd : decode cc pc = .ok (.invokevirtual 252, 3)) (kk2 : XJ K nL (Wm K M v) (pc + 3) L (rest)) : XJ K nL (Wm K M σ) pc L (.int x1 :: .ref (mO M) :: rest) :=
  m_callV (rest := rest) (v := none) [.int x1] 1 rfl C B dK hd (Nat.le_of_ble_eq_true rfl) (lw_V q1985 q1987 qs41 q133 q1988) (by decide +kernel) (met_begin B.2 hf) rfl hW dd kk2
def f_has (x0 : Int32) (x1 : Int32) : Int32 := if ((x0 >>> (x1 &&& 31)) &&& (1 : Int32)) = (1 : Int32) then ((1 : Int32)) else ((0 : Int32))
set_option maxHeartbeats 4000000 in
theorem w_has_E {K : KT} {M : MT} {r : Int32} {σ : MS} (C : Kok K cX10_has 2 RX10) (B : MB K M) (hr : (kMe K).sig.returnType = some .boolean) (dK : kR K = rmD 1) (hQ : KQm K M (some (.int r)) σ) (x0 : Int32) (x1 : Int32) (hf : f_has x0 x1 = r) : XJ K 2 (Wm K M σ) 0 [(0, .int x0), (1, .int x1)] [] := by
  unfold f_has at hf
  refine x_iload_n C dX10_has_0 0 rfl ?_
  refine x_iload_n C dX10_has_1 1 rfl ?_
  refine x_ishr C dX10_has_2 ?_
  refine x_iconst (1 : Int32) C dX10_has_3 (by decide) ?_
  refine x_iand C dX10_has_4 ?_
  refine x_iconst (1 : Int32) C dX10_has_5 (by decide) ?_
  refine x_icmp_ne (tgt := 13) C dX10_has_6 (by decide) (fun c1 => ?_) (fun c1 => ?_)
  · have hf := pf_f c1 hf
    refine x_iconst (0 : Int32) C dX10_has_13 (by decide) ?_
    subst hf
    exact m_zret C hr (Or.inl rfl) hQ dX10_has_14
  · have hf := pf_t c1 hf
    refine x_iconst (1 : Int32) C dX10_has_9 (by decide) ?_
    refine x_goto (tgt := 14) C dX10_has_10 (by decide) ?_
    subst hf
    exact m_zret C hr (Or.inr rfl) hQ dX10_has_14
theorem bz_has_E {r : Int32} {x0 : Int32} {x1 : Int32} (hf : f_has x0 x1 = r) : r = 0 ∨ r = 1 := by
  unfold f_has at hf
  by_cases c1 : ((x0 >>> (x1 &&& 31)) &&& (1 : Int32)) = (1 : Int32)
  · have hf := pf_t c1 hf
    subst hf
    exact (Or.inr rfl)
  · have hf := pf_f c1 hf
    subst hf
    exact (Or.inl rfl)
theorem met_has {M : MT} {v : Int32} {σ : MS} {x0 : Int32} {x1 : Int32} {l : Launch} (hc : (mCl M)[mCi M]? = some (RX10, TX10, 61)) (hf : f_has x0 x1 = v) : Met l yX10_has (ws_ yX10_has cX10_has 2 (some .boolean)) (rmD 1) (va_Pc [.int x0, .int x1] (MU M σ)) (Qm M (some (.int v)) σ) 0 0 (mAd M) :=
  m_met [.int x0, .int x1] (by decide) rfl (Nat.le_of_ble_eq_true rfl) hc (fun K hl hR hr C B hQ => w_has_E C B hr hR hQ _ _ hf)
theorem mc_has {K : KT} {M : MT} {cc : ByteArray} {nL pc dk : Nat} {L : List (Nat × Value)} {rest : List Value} {σ : MS} {v : Int32} {x0 : Int32} {x1 : Int32} (C : Kok K cc nL RX10) (B : MB K M) (dK : kR K = rmD dk) (hd : 1 + 1 ≤ dk) (hf : f_has x0 x1 = v) (hW : (rest.map fun v => v.category).sum ≤ 8) (dd : decode cc pc = .ok (.invokestatic 221, 3)) (kk2 : XJ K nL (Wm K M σ) (pc + 3) L ((.int v) :: rest)) : XJ K nL (Wm K M σ) pc L (.int x1 :: .int x0 :: rest) :=
  m_callS (rest := rest) (v := (some (.int v))) [.int x0, .int x1] 2 rfl C B dK hd (Nat.le_of_ble_eq_true rfl) (lw_S q2069 q2070 q133 q2071) (by decide +kernel) (met_has B.2 hf) rfl hW dd kk2
def f_layFar_55 (n : Nat) (k34 : Int32 → MS → Option MS) (k42 : Int32 → Int32 → MS → Option MS) : Nat → Int32 → Int32 → Int32 → MS → Option MS
  | 0, _, _, _, _ => none
  | m + 1, x2, x3, x4, σ => if (ga σ 15 0) ≤ x4 then (k42 x2 (x3 + (1 : Int32)) σ) else (if inb ((14 : Int32) + x3) 198 = true then if (f_has (ga σ 15 (Int32.toNatClampNeg ((14 : Int32) + x3))) x4) = 0 then (f_layFar_55 n k34 k42 m x2 x3 (x4 + (1 : Int32)) σ) else (if inb x4 8 = true then if inb x3 8 = true then if (ga σ 26 (Int32.toNatClampNeg x3)) ≤ ((ga σ 26 (Int32.toNatClampNeg x4)) + (1 : Int32)) then (f_layFar_55 n k34 k42 m x2 x3 (x4 + (1 : Int32)) σ) else (if inb x4 8 = true then if inb x3 8 = true then ev (sa σ 26 (Int32.toNatClampNeg x3) ((ga σ 26 (Int32.toNatClampNeg x4)) + (1 : Int32))) fun s9 => f_layFar_55 n k34 k42 m x2 x3 (x4 + (1 : Int32)) s9 else none else none) else none else none) else none)
set_option maxHeartbeats 4000000 in
theorem w_layFar_55 {K : KT} {M : MT} {τ : MS} (n : Nat) (k34 : Int32 → MS → Option MS) (k42 : Int32 → Int32 → MS → Option MS) (C : Kok K cX10_layFar 5 RX10) (B : MB K M) (hr : (kMe K).sig.returnType = none) (dK : kR K = rmD 2) (hQ : KQm K M none τ)  (hk34 : ∀ (x2 : Int32) (σ : MS), k34 x2 σ = some τ → XJ K 5 (Wm K M σ) 34 [(0, .ref (mO M)), (2, .int x2)] []) (hk42 : ∀ (x2 : Int32) (x3 : Int32) (σ : MS), k42 x2 x3 σ = some τ → XJ K 5 (Wm K M σ) 42 [(0, .ref (mO M)), (2, .int x2), (3, .int x3)] []) : ∀ (m : Nat) (x2 : Int32) (x3 : Int32) (x4 : Int32) (σ : MS) (hf : f_layFar_55 n k34 k42 m x2 x3 x4 σ = some τ), XJ K 5 (Wm K M σ) 55 [(0, .ref (mO M)), (2, .int x2), (3, .int x3), (4, .int x4)] [] := by
  intro m
  induction m with
  | zero => intro x2 x3 x4 σ hf; cases hf
  | succ m ih =>
    intro x2 x3 x4 σ hf
    rw [f_layFar_55] at hf
    refine x_iload C dX10_layFar_55 3 rfl ?_
    refine x_aload_n C dX10_layFar_57 0 rfl ?_
    refine mg_15 C B dX10_layFar_58 ?_
    refine x_iconst (0 : Int32) C dX10_layFar_61 (by decide) ?_
    refine mlc_15 0 C B (by decide +kernel) dX10_layFar_62 ?_
    refine x_icmp_ge (tgt := 122) C dX10_layFar_63 (by decide) (fun c1 => ?_) (fun c1 => ?_)
    · have hf := pf_t c1 hf
      refine x_inc (c := (1 : Int32)) (L' := [(0, .ref (mO M)), (2, .int x2), (3, .int (x3 + (1 : Int32)))]) C dX10_layFar_122 2 rfl (by decide) (Nat.le_of_ble_eq_true rfl) [1, 2, 0] rfl ?_
      refine x_goto (tgt := 42) C dX10_layFar_125 (by decide) ?_
      exact hk42 x2 (x3 + (1 : Int32)) _ hf
    · have hf := pf_f c1 hf
      refine x_aload_n C dX10_layFar_66 0 rfl ?_
      refine mg_15 C B dX10_layFar_67 ?_
      refine x_bipush (14 : Int32) C dX10_layFar_70 (by decide) ?_
      refine x_iload_n C dX10_layFar_72 2 rfl ?_
      refine x_iadd C dX10_layFar_73 ?_
      obtain ⟨h2, hf⟩ := pf_in hf
      refine ml_15 C B h2 dX10_layFar_74 ?_
      refine x_iload C dX10_layFar_75 3 rfl ?_
      refine mc_has C B dK (Nat.le_of_ble_eq_true rfl) rfl (Nat.le_of_ble_eq_true rfl) dX10_layFar_77 ?_
      refine x_if_eq (tgt := 116) C dX10_layFar_80 (by decide) (fun c3 => ?_) (fun c3 => ?_)
      · have hf := pf_t c3 hf
        refine x_inc (c := (1 : Int32)) (L' := [(0, .ref (mO M)), (2, .int x2), (3, .int x3), (4, .int (x4 + (1 : Int32)))]) C dX10_layFar_116 3 rfl (by decide) (Nat.le_of_ble_eq_true rfl) [1, 2, 3, 0] rfl ?_
        refine x_goto (tgt := 55) C dX10_layFar_119 (by decide) ?_
        exact ih x2 x3 (x4 + (1 : Int32)) _ hf
      · have hf := pf_f c3 hf
        refine x_aload_n C dX10_layFar_83 0 rfl ?_
        refine mg_26 C B dX10_layFar_84 ?_
        refine x_iload C dX10_layFar_87 3 rfl ?_
        obtain ⟨h4, hf⟩ := pf_in hf
        refine ml_26 C B h4 dX10_layFar_89 ?_
        refine x_iconst (1 : Int32) C dX10_layFar_90 (by decide) ?_
        refine x_iadd C dX10_layFar_91 ?_
        refine x_aload_n C dX10_layFar_92 0 rfl ?_
        refine mg_26 C B dX10_layFar_93 ?_
        refine x_iload_n C dX10_layFar_96 2 rfl ?_
        obtain ⟨h5, hf⟩ := pf_in hf
        refine ml_26 C B h5 dX10_layFar_97 ?_
        refine x_icmp_ge (tgt := 116) C dX10_layFar_98 (by decide) (fun c6 => ?_) (fun c6 => ?_)
        · have hf := pf_t c6 hf
          refine x_inc (c := (1 : Int32)) (L' := [(0, .ref (mO M)), (2, .int x2), (3, .int x3), (4, .int (x4 + (1 : Int32)))]) C dX10_layFar_116 3 rfl (by decide) (Nat.le_of_ble_eq_true rfl) [1, 2, 3, 0] rfl ?_
          refine x_goto (tgt := 55) C dX10_layFar_119 (by decide) ?_
          exact ih x2 x3 (x4 + (1 : Int32)) _ hf
        · have hf := pf_f c6 hf
          refine x_aload_n C dX10_layFar_101 0 rfl ?_
          refine mg_26 C B dX10_layFar_102 ?_
          refine x_iload_n C dX10_layFar_105 2 rfl ?_
          refine x_aload_n C dX10_layFar_106 0 rfl ?_
          refine mg_26 C B dX10_layFar_107 ?_
          refine x_iload C dX10_layFar_110 3 rfl ?_
          obtain ⟨h7, hf⟩ := pf_in hf
          refine ml_26 C B h7 dX10_layFar_112 ?_
          refine x_iconst (1 : Int32) C dX10_layFar_113 (by decide) ?_
          refine x_iadd C dX10_layFar_114 ?_
          obtain ⟨h8, hf⟩ := pf_in hf
          refine ms_26 C B h8 dX10_layFar_115 ?_
          obtain ⟨s9, es9, hf⟩ := pf_e hf
          refine m_ren es9 ?_
          refine x_inc (c := (1 : Int32)) (L' := [(0, .ref (mO M)), (2, .int x2), (3, .int x3), (4, .int (x4 + (1 : Int32)))]) C dX10_layFar_116 3 rfl (by decide) (Nat.le_of_ble_eq_true rfl) [1, 2, 3, 0] rfl ?_
          refine x_goto (tgt := 55) C dX10_layFar_119 (by decide) ?_
          exact ih x2 x3 (x4 + (1 : Int32)) _ hf
def f_layFar_42 (n : Nat) (k34 : Int32 → MS → Option MS) : Nat → Int32 → Int32 → MS → Option MS
  | 0, _, _, _ => none
  | m + 1, x2, x3, σ => if (ga σ 15 0) ≤ x3 then (k34 (x2 + (1 : Int32)) σ) else (f_layFar_55 n k34 (f_layFar_42 n k34 m) n x2 x3 (0 : Int32) σ)
set_option maxHeartbeats 4000000 in
theorem w_layFar_42 {K : KT} {M : MT} {τ : MS} (n : Nat) (k34 : Int32 → MS → Option MS) (C : Kok K cX10_layFar 5 RX10) (B : MB K M) (hr : (kMe K).sig.returnType = none) (dK : kR K = rmD 2) (hQ : KQm K M none τ)  (hk34 : ∀ (x2 : Int32) (σ : MS), k34 x2 σ = some τ → XJ K 5 (Wm K M σ) 34 [(0, .ref (mO M)), (2, .int x2)] []) : ∀ (m : Nat) (x2 : Int32) (x3 : Int32) (σ : MS) (hf : f_layFar_42 n k34 m x2 x3 σ = some τ), XJ K 5 (Wm K M σ) 42 [(0, .ref (mO M)), (2, .int x2), (3, .int x3)] [] := by
  intro m
  induction m with
  | zero => intro x2 x3 σ hf; cases hf
  | succ m ih =>
    intro x2 x3 σ hf
    rw [f_layFar_42] at hf
    refine x_iload_n C dX10_layFar_42 2 rfl ?_
    refine x_aload_n C dX10_layFar_43 0 rfl ?_
    refine mg_15 C B dX10_layFar_44 ?_
    refine x_iconst (0 : Int32) C dX10_layFar_47 (by decide) ?_
    refine mlc_15 0 C B (by decide +kernel) dX10_layFar_48 ?_
    refine x_icmp_ge (tgt := 128) C dX10_layFar_49 (by decide) (fun c1 => ?_) (fun c1 => ?_)
    · have hf := pf_t c1 hf
      refine x_inc (c := (1 : Int32)) (L' := [(0, .ref (mO M)), (2, .int (x2 + (1 : Int32)))]) C dX10_layFar_128 1 rfl (by decide) (Nat.le_of_ble_eq_true rfl) [1, 0] rfl ?_
      refine x_goto (tgt := 34) C dX10_layFar_131 (by decide) ?_
      exact hk34 (x2 + (1 : Int32)) _ hf
    · have hf := pf_f c1 hf
      refine x_iconst (0 : Int32) C dX10_layFar_52 (by decide) ?_
      refine x_istore (L' := [(0, .ref (mO M)), (2, .int x2), (3, .int x3), (4, .int (0 : Int32))]) C dX10_layFar_53 (Nat.le_of_ble_eq_true rfl) [1, 2, 3, 0] rfl ?_
      exact w_layFar_55 n _ _ C B hr dK hQ hk34 ih n x2 x3 (0 : Int32) _ hf
def f_layFar_34 (n : Nat) : Nat → Int32 → MS → Option MS
  | 0, _, _ => none
  | m + 1, x2, σ => if (8 : Int32) ≤ x2 then (some σ) else (f_layFar_42 n (f_layFar_34 n m) n x2 (0 : Int32) σ)
set_option maxHeartbeats 4000000 in
theorem w_layFar_34 {K : KT} {M : MT} {τ : MS} (n : Nat) (C : Kok K cX10_layFar 5 RX10) (B : MB K M) (hr : (kMe K).sig.returnType = none) (dK : kR K = rmD 2) (hQ : KQm K M none τ) : ∀ (m : Nat) (x2 : Int32) (σ : MS) (hf : f_layFar_34 n m x2 σ = some τ), XJ K 5 (Wm K M σ) 34 [(0, .ref (mO M)), (2, .int x2)] [] := by
  intro m
  induction m with
  | zero => intro x2 σ hf; cases hf
  | succ m ih =>
    intro x2 σ hf
    rw [f_layFar_34] at hf
    refine x_iload_n C dX10_layFar_34 1 rfl ?_
    refine x_bipush (8 : Int32) C dX10_layFar_35 (by decide) ?_
    refine x_icmp_ge (tgt := 134) C dX10_layFar_37 (by decide) (fun c1 => ?_) (fun c1 => ?_)
    · have hf := pf_t c1 hf
      obtain rfl := Option.some.inj hf
      exact m_vret C hr hQ dX10_layFar_134
    · have hf := pf_f c1 hf
      refine x_iconst (0 : Int32) C dX10_layFar_40 (by decide) ?_
      refine x_istore_n (L' := [(0, .ref (mO M)), (2, .int x2), (3, .int (0 : Int32))]) C dX10_layFar_41 (Nat.le_of_ble_eq_true rfl) [1, 2, 0] rfl ?_
      exact w_layFar_42 n _ C B hr dK hQ ih n x2 (0 : Int32) _ hf
def f_layFar_2 (n : Nat) : Nat → Int32 → Int32 → MS → Option MS
  | 0, _, _, _ => none
  | m + 1, x1, x2, σ => if (8 : Int32) ≤ x2 then (f_layFar_34 n n (0 : Int32) σ) else (if x2 = x1 then (if inb x2 8 = true then ev (sa σ 26 (Int32.toNatClampNeg x2) (0 : Int32)) fun s6 => f_layFar_2 n m x1 (x2 + (1 : Int32)) s6 else none) else (if inb x2 8 = true then ev (sa σ 26 (Int32.toNatClampNeg x2) (999 : Int32)) fun s4 => f_layFar_2 n m x1 (x2 + (1 : Int32)) s4 else none))
set_option maxHeartbeats 4000000 in
theorem w_layFar_2 {K : KT} {M : MT} {τ : MS} (n : Nat) (C : Kok K cX10_layFar 5 RX10) (B : MB K M) (hr : (kMe K).sig.returnType = none) (dK : kR K = rmD 2) (hQ : KQm K M none τ) : ∀ (m : Nat) (x1 : Int32) (x2 : Int32) (σ : MS) (hf : f_layFar_2 n m x1 x2 σ = some τ), XJ K 5 (Wm K M σ) 2 [(0, .ref (mO M)), (1, .int x1), (2, .int x2)] [] := by
  intro m
  induction m with
  | zero => intro x1 x2 σ hf; cases hf
  | succ m ih =>
    intro x1 x2 σ hf
    rw [f_layFar_2] at hf
    refine x_iload_n C dX10_layFar_2 2 rfl ?_
    refine x_bipush (8 : Int32) C dX10_layFar_3 (by decide) ?_
    refine x_icmp_ge (tgt := 32) C dX10_layFar_5 (by decide) (fun c1 => ?_) (fun c1 => ?_)
    · have hf := pf_t c1 hf
      refine x_iconst (0 : Int32) C dX10_layFar_32 (by decide) ?_
      refine x_istore_n (L' := [(0, .ref (mO M)), (2, .int (0 : Int32))]) C dX10_layFar_33 (Nat.le_of_ble_eq_true rfl) [1, 0] rfl ?_
      exact w_layFar_34 n C B hr dK hQ n (0 : Int32) _ hf
    · have hf := pf_f c1 hf
      refine x_aload_n C dX10_layFar_8 0 rfl ?_
      refine mg_26 C B dX10_layFar_9 ?_
      refine x_iload_n C dX10_layFar_12 2 rfl ?_
      refine x_iload_n C dX10_layFar_13 2 rfl ?_
      refine x_iload_n C dX10_layFar_14 1 rfl ?_
      refine x_icmp_ne (tgt := 22) C dX10_layFar_15 (by decide) (fun c2 => ?_) (fun c2 => ?_)
      · have hf := pf_f c2 hf
        refine x_sipush (999 : Int32) C dX10_layFar_22 (by decide) ?_
        obtain ⟨h3, hf⟩ := pf_in hf
        refine ms_26 C B h3 dX10_layFar_25 ?_
        obtain ⟨s4, es4, hf⟩ := pf_e hf
        refine m_ren es4 ?_
        refine x_inc (c := (1 : Int32)) (L' := [(0, .ref (mO M)), (1, .int x1), (2, .int (x2 + (1 : Int32)))]) C dX10_layFar_26 2 rfl (by decide) (Nat.le_of_ble_eq_true rfl) [1, 2, 0] rfl ?_
        refine x_goto (tgt := 2) C dX10_layFar_29 (by decide) ?_
        exact ih x1 (x2 + (1 : Int32)) _ hf
      · have hf := pf_t c2 hf
        refine x_iconst (0 : Int32) C dX10_layFar_18 (by decide) ?_
        refine x_goto (tgt := 25) C dX10_layFar_19 (by decide) ?_
        obtain ⟨h5, hf⟩ := pf_in hf
        refine ms_26 C B h5 dX10_layFar_25 ?_
        obtain ⟨s6, es6, hf⟩ := pf_e hf
        refine m_ren es6 ?_
        refine x_inc (c := (1 : Int32)) (L' := [(0, .ref (mO M)), (1, .int x1), (2, .int (x2 + (1 : Int32)))]) C dX10_layFar_26 2 rfl (by decide) (Nat.le_of_ble_eq_true rfl) [1, 2, 0] rfl ?_
        refine x_goto (tgt := 2) C dX10_layFar_29 (by decide) ?_
        exact ih x1 (x2 + (1 : Int32)) _ hf
def f_layFar (n : Nat) (x1 : Int32) (σ : MS) : Option MS := f_layFar_2 n n x1 (0 : Int32) σ
set_option maxHeartbeats 4000000 in
theorem w_layFar_E {K : KT} {M : MT} {τ : MS} (n : Nat) (C : Kok K cX10_layFar 5 RX10) (B : MB K M) (hr : (kMe K).sig.returnType = none) (dK : kR K = rmD 2) (hQ : KQm K M none τ) (x1 : Int32) (σ : MS) (hf : f_layFar n x1 σ = some τ) : XJ K 5 (Wm K M σ) 0 [(0, .ref (mO M)), (1, .int x1)] [] := by
  unfold f_layFar at hf
  refine x_iconst (0 : Int32) C dX10_layFar_0 (by decide) ?_
  refine x_istore_n (L' := [(0, .ref (mO M)), (1, .int x1), (2, .int (0 : Int32))]) C dX10_layFar_1 (Nat.le_of_ble_eq_true rfl) [1, 2, 0] rfl ?_
  exact w_layFar_2 n C B hr dK hQ n x1 (0 : Int32) _ hf
theorem met_layFar {M : MT} {v : MS} {n : Nat} {σ : MS} {x1 : Int32} {l : Launch} (hc : (mCl M)[mCi M]? = some (RX10, TX10, 61)) (hf : f_layFar n x1 σ = some v) : Met l yX10_layFar (ws_ yX10_layFar cX10_layFar 5 none) (rmD 2) (va_Pc [.ref (mO M), .int x1] (MU M σ)) (Qm M none v) 0 0 (mAd M) :=
  m_met [.ref (mO M), .int x1] (by decide) rfl (Nat.le_of_ble_eq_true rfl) hc (fun K hl hR hr C B hQ => w_layFar_E _ C B hr hR hQ _ _ hf)
theorem mc_layFar {K : KT} {M : MT} {cc : ByteArray} {nL pc dk : Nat} {L : List (Nat × Value)} {rest : List Value} {σ : MS} {v : MS} {n : Nat} {x1 : Int32} (C : Kok K cc nL RX10) (B : MB K M) (dK : kR K = rmD dk) (hd : 2 + 1 ≤ dk) (hf : f_layFar n x1 σ = some v) (hW : (rest.map fun v => v.category).sum ≤ 8) (dd : decode cc pc = .ok (.invokevirtual 249, 3)) (kk2 : XJ K nL (Wm K M v) (pc + 3) L (rest)) : XJ K nL (Wm K M σ) pc L (.int x1 :: .ref (mO M) :: rest) :=
  m_callV (rest := rest) (v := none) [.int x1] 1 rfl C B dK hd (Nat.le_of_ble_eq_true rfl) (lw_V q2100 q2102 qs64 q133 q2103) (by decide +kernel) (met_layFar B.2 hf) rfl hW dd kk2
def f_layWay_77 (n : Nat) (k65 : Int32 → Int32 → Int32 → Int32 → MS → Option MS) : Nat → Int32 → Int32 → Int32 → Int32 → Int32 → MS → Option MS
  | 0, _, _, _, _, _, _ => none
  | m + 1, x1, x2, x3, x4, x5, σ => if inb ((14 : Int32) + x2) 198 = true then if (f_has (ga σ 15 (Int32.toNatClampNeg ((14 : Int32) + x2))) x5) = 0 then (f_layWay_77 n k65 m x1 x2 x3 x4 (x5 + (1 : Int32)) σ) else (if inb x5 8 = true then if inb x2 8 = true then if (ga σ 26 (Int32.toNatClampNeg x5)) = ((ga σ 26 (Int32.toNatClampNeg x2)) - (1 : Int32)) then (if inb (x3 + x4) 198 = true then ev (sa σ 15 (Int32.toNatClampNeg (x3 + x4)) x5) fun s7 => k65 x1 x5 x3 (x4 + (1 : Int32)) s7 else none) else (f_layWay_77 n k65 m x1 x2 x3 x4 (x5 + (1 : Int32)) σ) else none else none) else none
set_option maxHeartbeats 4000000 in
theorem w_layWay_77 {K : KT} {M : MT} {τ : MS} (n : Nat) (k65 : Int32 → Int32 → Int32 → Int32 → MS → Option MS) (C : Kok K cX10_layWay 6 RX10) (B : MB K M) (hr : (kMe K).sig.returnType = none) (dK : kR K = rmD 3) (hQ : KQm K M none τ)  (hk65 : ∀ (x1 : Int32) (x2 : Int32) (x3 : Int32) (x4 : Int32) (σ : MS), k65 x1 x2 x3 x4 σ = some τ → XJ K 6 (Wm K M σ) 65 [(0, .ref (mO M)), (1, .int x1), (2, .int x2), (3, .int x3), (4, .int x4)] []) : ∀ (m : Nat) (x1 : Int32) (x2 : Int32) (x3 : Int32) (x4 : Int32) (x5 : Int32) (σ : MS) (hf : f_layWay_77 n k65 m x1 x2 x3 x4 x5 σ = some τ), XJ K 6 (Wm K M σ) 77 [(0, .ref (mO M)), (1, .int x1), (2, .int x2), (3, .int x3), (4, .int x4), (5, .int x5)] [] := by
  intro m
  induction m with
  | zero => intro x1 x2 x3 x4 x5 σ hf; cases hf
  | succ m ih =>
    intro x1 x2 x3 x4 x5 σ hf
    rw [f_layWay_77] at hf
    refine x_aload_n C dX10_layWay_77 0 rfl ?_
    refine mg_15 C B dX10_layWay_78 ?_
    refine x_bipush (14 : Int32) C dX10_layWay_81 (by decide) ?_
    refine x_iload_n C dX10_layWay_83 2 rfl ?_
    refine x_iadd C dX10_layWay_84 ?_
    obtain ⟨h1, hf⟩ := pf_in hf
    refine ml_15 C B h1 dX10_layWay_85 ?_
    refine x_iload C dX10_layWay_86 5 rfl ?_
    refine mc_has C B dK (Nat.le_of_ble_eq_true rfl) rfl (Nat.le_of_ble_eq_true rfl) dX10_layWay_88 ?_
    refine x_if_eq (tgt := 112) C dX10_layWay_91 (by decide) (fun c2 => ?_) (fun c2 => ?_)
    · have hf := pf_t c2 hf
      refine x_inc (c := (1 : Int32)) (L' := [(0, .ref (mO M)), (1, .int x1), (2, .int x2), (3, .int x3), (4, .int x4), (5, .int (x5 + (1 : Int32)))]) C dX10_layWay_112 5 rfl (by decide) (Nat.le_of_ble_eq_true rfl) [1, 2, 3, 4, 5, 0] rfl ?_
      refine x_goto (tgt := 77) C dX10_layWay_115 (by decide) ?_
      exact ih x1 x2 x3 x4 (x5 + (1 : Int32)) _ hf
    · have hf := pf_f c2 hf
      refine x_aload_n C dX10_layWay_94 0 rfl ?_
      refine mg_26 C B dX10_layWay_95 ?_
      refine x_iload C dX10_layWay_98 5 rfl ?_
      obtain ⟨h3, hf⟩ := pf_in hf
      refine ml_26 C B h3 dX10_layWay_100 ?_
      refine x_aload_n C dX10_layWay_101 0 rfl ?_
      refine mg_26 C B dX10_layWay_102 ?_
      refine x_iload_n C dX10_layWay_105 2 rfl ?_
      obtain ⟨h4, hf⟩ := pf_in hf
      refine ml_26 C B h4 dX10_layWay_106 ?_
      refine x_iconst (1 : Int32) C dX10_layWay_107 (by decide) ?_
      refine x_isub C dX10_layWay_108 ?_
      refine x_icmp_eq (tgt := 118) C dX10_layWay_109 (by decide) (fun c5 => ?_) (fun c5 => ?_)
      · have hf := pf_t c5 hf
        refine x_iload C dX10_layWay_118 5 rfl ?_
        refine x_istore_n (L' := [(0, .ref (mO M)), (1, .int x1), (2, .int x5), (3, .int x3), (4, .int x4)]) C dX10_layWay_120 (Nat.le_of_ble_eq_true rfl) [1, 2, 0, 3, 4] rfl ?_
        refine x_aload_n C dX10_layWay_121 0 rfl ?_
        refine mg_15 C B dX10_layWay_122 ?_
        refine x_iload_n C dX10_layWay_125 3 rfl ?_
        refine x_iload C dX10_layWay_126 4 rfl ?_
        refine x_iadd C dX10_layWay_128 ?_
        refine x_iload_n C dX10_layWay_129 2 rfl ?_
        obtain ⟨h6, hf⟩ := pf_in hf
        refine ms_15 C B h6 dX10_layWay_130 ?_
        obtain ⟨s7, es7, hf⟩ := pf_e hf
        refine m_ren es7 ?_
        refine x_inc (c := (1 : Int32)) (L' := [(0, .ref (mO M)), (1, .int x1), (2, .int x5), (3, .int x3), (4, .int (x4 + (1 : Int32)))]) C dX10_layWay_131 4 rfl (by decide) (Nat.le_of_ble_eq_true rfl) [1, 2, 3, 4, 0] rfl ?_
        refine x_goto (tgt := 65) C dX10_layWay_134 (by decide) ?_
        exact hk65 x1 x5 x3 (x4 + (1 : Int32)) _ hf
      · have hf := pf_f c5 hf
        refine x_inc (c := (1 : Int32)) (L' := [(0, .ref (mO M)), (1, .int x1), (2, .int x2), (3, .int x3), (4, .int x4), (5, .int (x5 + (1 : Int32)))]) C dX10_layWay_112 5 rfl (by decide) (Nat.le_of_ble_eq_true rfl) [1, 2, 3, 4, 5, 0] rfl ?_
        refine x_goto (tgt := 77) C dX10_layWay_115 (by decide) ?_
        exact ih x1 x2 x3 x4 (x5 + (1 : Int32)) _ hf
def f_layWay_65 (n : Nat) : Nat → Int32 → Int32 → Int32 → Int32 → MS → Option MS
  | 0, _, _, _, _, _ => none
  | m + 1, x1, x2, x3, x4, σ => if inb x2 8 = true then if (ga σ 26 (Int32.toNatClampNeg x2)) ≤ 0 then (if inb ((126 : Int32) + x1) 198 = true then ev (sa σ 15 (Int32.toNatClampNeg ((126 : Int32) + x1)) x4) fun s4 => some s4 else none) else (f_layWay_77 n (f_layWay_65 n m) n x1 x2 x3 x4 (0 : Int32) σ) else none
set_option maxHeartbeats 4000000 in
theorem w_layWay_65 {K : KT} {M : MT} {τ : MS} (n : Nat) (C : Kok K cX10_layWay 6 RX10) (B : MB K M) (hr : (kMe K).sig.returnType = none) (dK : kR K = rmD 3) (hQ : KQm K M none τ) : ∀ (m : Nat) (x1 : Int32) (x2 : Int32) (x3 : Int32) (x4 : Int32) (σ : MS) (hf : f_layWay_65 n m x1 x2 x3 x4 σ = some τ), XJ K 6 (Wm K M σ) 65 [(0, .ref (mO M)), (1, .int x1), (2, .int x2), (3, .int x3), (4, .int x4)] [] := by
  intro m
  induction m with
  | zero => intro x1 x2 x3 x4 σ hf; cases hf
  | succ m ih =>
    intro x1 x2 x3 x4 σ hf
    rw [f_layWay_65] at hf
    refine x_aload_n C dX10_layWay_65 0 rfl ?_
    refine mg_26 C B dX10_layWay_66 ?_
    refine x_iload_n C dX10_layWay_69 2 rfl ?_
    obtain ⟨h1, hf⟩ := pf_in hf
    refine ml_26 C B h1 dX10_layWay_70 ?_
    refine x_if_le (tgt := 137) C dX10_layWay_71 (by decide) (fun c2 => ?_) (fun c2 => ?_)
    · have hf := pf_t c2 hf
      refine x_aload_n C dX10_layWay_137 0 rfl ?_
      refine mg_15 C B dX10_layWay_138 ?_
      refine x_bipush (126 : Int32) C dX10_layWay_141 (by decide) ?_
      refine x_iload_n C dX10_layWay_143 1 rfl ?_
      refine x_iadd C dX10_layWay_144 ?_
      refine x_iload C dX10_layWay_145 4 rfl ?_
      obtain ⟨h3, hf⟩ := pf_in hf
      refine ms_15 C B h3 dX10_layWay_147 ?_
      obtain ⟨s4, es4, hf⟩ := pf_e hf
      refine m_ren es4 ?_
      obtain rfl := Option.some.inj hf
      exact m_vret C hr hQ dX10_layWay_148
    · have hf := pf_f c2 hf
      refine x_iconst (0 : Int32) C dX10_layWay_74 (by decide) ?_
      refine x_istore (L' := [(0, .ref (mO M)), (1, .int x1), (2, .int x2), (3, .int x3), (4, .int x4), (5, .int (0 : Int32))]) C dX10_layWay_75 (Nat.le_of_ble_eq_true rfl) [1, 2, 3, 4, 5, 0] rfl ?_
      exact w_layWay_77 n _ C B hr dK hQ ih n x1 x2 x3 x4 (0 : Int32) _ hf
def f_layWay (n : Nat) (x1 : Int32) (σ : MS) : Option MS := if inb ((62 : Int32) + x1) 198 = true then (f_layFar n (ga σ 15 (Int32.toNatClampNeg ((62 : Int32) + x1))) σ).bind fun r2 => if inb ((54 : Int32) + x1) 198 = true then ev (ga r2 15 (Int32.toNatClampNeg ((54 : Int32) + x1))) fun v4 => if inb ((126 : Int32) + x1) 198 = true then ev (sa r2 15 (Int32.toNatClampNeg ((126 : Int32) + x1)) (0 : Int32)) fun s6 => if inb v4 8 = true then if (ga s6 26 (Int32.toNatClampNeg v4)) = (999 : Int32) then (some s6) else (ev ((134 : Int32) + ((8 : Int32) * x1)) fun v9 => if inb v9 198 = true then ev (sa s6 15 (Int32.toNatClampNeg v9) v4) fun s11 => f_layWay_65 n n x1 v4 v9 (1 : Int32) s11 else none) else none else none else none else none
set_option maxHeartbeats 4000000 in
theorem w_layWay_E {K : KT} {M : MT} {τ : MS} (n : Nat) (C : Kok K cX10_layWay 6 RX10) (B : MB K M) (hr : (kMe K).sig.returnType = none) (dK : kR K = rmD 3) (hQ : KQm K M none τ) (x1 : Int32) (σ : MS) (hf : f_layWay n x1 σ = some τ) : XJ K 6 (Wm K M σ) 0 [(0, .ref (mO M)), (1, .int x1)] [] := by
  unfold f_layWay at hf
  refine x_aload_n C dX10_layWay_0 0 rfl ?_
  refine x_aload_n C dX10_layWay_1 0 rfl ?_
  refine mg_15 C B dX10_layWay_2 ?_
  refine x_bipush (62 : Int32) C dX10_layWay_5 (by decide) ?_
  refine x_iload_n C dX10_layWay_7 1 rfl ?_
  refine x_iadd C dX10_layWay_8 ?_
  obtain ⟨h1, hf⟩ := pf_in hf
  refine ml_15 C B h1 dX10_layWay_9 ?_
  obtain ⟨r2, er2, hf⟩ := pf_b hf
  refine mc_layFar C B dK (Nat.le_of_ble_eq_true rfl) er2 (Nat.le_of_ble_eq_true rfl) dX10_layWay_10 ?_
  refine x_aload_n C dX10_layWay_13 0 rfl ?_
  refine mg_15 C B dX10_layWay_14 ?_
  refine x_bipush (54 : Int32) C dX10_layWay_17 (by decide) ?_
  refine x_iload_n C dX10_layWay_19 1 rfl ?_
  refine x_iadd C dX10_layWay_20 ?_
  obtain ⟨h3, hf⟩ := pf_in hf
  refine ml_15 C B h3 dX10_layWay_21 ?_
  obtain ⟨v4, ev4, hf⟩ := pf_e hf
  refine x_topir ev4 ?_
  refine x_istore_n (L' := [(0, .ref (mO M)), (1, .int x1), (2, .int v4)]) C dX10_layWay_22 (Nat.le_of_ble_eq_true rfl) [1, 2, 0] rfl ?_
  refine x_aload_n C dX10_layWay_23 0 rfl ?_
  refine mg_15 C B dX10_layWay_24 ?_
  refine x_bipush (126 : Int32) C dX10_layWay_27 (by decide) ?_
  refine x_iload_n C dX10_layWay_29 1 rfl ?_
  refine x_iadd C dX10_layWay_30 ?_
  refine x_iconst (0 : Int32) C dX10_layWay_31 (by decide) ?_
  obtain ⟨h5, hf⟩ := pf_in hf
  refine ms_15 C B h5 dX10_layWay_32 ?_
  obtain ⟨s6, es6, hf⟩ := pf_e hf
  refine m_ren es6 ?_
  refine x_aload_n C dX10_layWay_33 0 rfl ?_
  refine mg_26 C B dX10_layWay_34 ?_
  refine x_iload_n C dX10_layWay_37 2 rfl ?_
  obtain ⟨h7, hf⟩ := pf_in hf
  refine ml_26 C B h7 dX10_layWay_38 ?_
  refine x_sipush (999 : Int32) C dX10_layWay_39 (by decide) ?_
  refine x_icmp_ne (tgt := 46) C dX10_layWay_42 (by decide) (fun c8 => ?_) (fun c8 => ?_)
  · have hf := pf_f c8 hf
    refine x_sipush (134 : Int32) C dX10_layWay_46 (by decide) ?_
    refine x_bipush (8 : Int32) C dX10_layWay_49 (by decide) ?_
    refine x_iload_n C dX10_layWay_51 1 rfl ?_
    refine x_imul C dX10_layWay_52 ?_
    refine x_iadd C dX10_layWay_53 ?_
    obtain ⟨v9, ev9, hf⟩ := pf_e hf
    refine x_topir ev9 ?_
    refine x_istore_n (L' := [(0, .ref (mO M)), (1, .int x1), (2, .int v4), (3, .int v9)]) C dX10_layWay_54 (Nat.le_of_ble_eq_true rfl) [1, 2, 3, 0] rfl ?_
    refine x_aload_n C dX10_layWay_55 0 rfl ?_
    refine mg_15 C B dX10_layWay_56 ?_
    refine x_iload_n C dX10_layWay_59 3 rfl ?_
    refine x_iload_n C dX10_layWay_60 2 rfl ?_
    obtain ⟨h10, hf⟩ := pf_in hf
    refine ms_15 C B h10 dX10_layWay_61 ?_
    obtain ⟨s11, es11, hf⟩ := pf_e hf
    refine m_ren es11 ?_
    refine x_iconst (1 : Int32) C dX10_layWay_62 (by decide) ?_
    refine x_istore (L' := [(0, .ref (mO M)), (1, .int x1), (2, .int v4), (3, .int v9), (4, .int (1 : Int32))]) C dX10_layWay_63 (Nat.le_of_ble_eq_true rfl) [1, 2, 3, 4, 0] rfl ?_
    exact w_layWay_65 n C B hr dK hQ n x1 v4 v9 (1 : Int32) _ hf
  · have hf := pf_t c8 hf
    obtain rfl := Option.some.inj hf
    exact m_vret C hr hQ dX10_layWay_45
theorem met_layWay {M : MT} {v : MS} {n : Nat} {σ : MS} {x1 : Int32} {l : Launch} (hc : (mCl M)[mCi M]? = some (RX10, TX10, 61)) (hf : f_layWay n x1 σ = some v) : Met l yX10_layWay (ws_ yX10_layWay cX10_layWay 6 none) (rmD 3) (va_Pc [.ref (mO M), .int x1] (MU M σ)) (Qm M none v) 0 0 (mAd M) :=
  m_met [.ref (mO M), .int x1] (by decide) rfl (Nat.le_of_ble_eq_true rfl) hc (fun K hl hR hr C B hQ => w_layWay_E _ C B hr hR hQ _ _ hf)
theorem mc_layWay {K : KT} {M : MT} {cc : ByteArray} {nL pc dk : Nat} {L : List (Nat × Value)} {rest : List Value} {σ : MS} {v : MS} {n : Nat} {x1 : Int32} (C : Kok K cc nL RX10) (B : MB K M) (dK : kR K = rmD dk) (hd : 3 + 1 ≤ dk) (hf : f_layWay n x1 σ = some v) (hW : (rest.map fun v => v.category).sum ≤ 8) (dd : decode cc pc = .ok (.invokevirtual 261, 3)) (kk2 : XJ K nL (Wm K M v) (pc + 3) L (rest)) : XJ K nL (Wm K M σ) pc L (.int x1 :: .ref (mO M) :: rest) :=
  m_callV (rest := rest) (v := none) [.int x1] 1 rfl C B dK hd (Nat.le_of_ble_eq_true rfl) (lw_V q2096 q2098 qs63 q133 q2099) (by decide +kernel) (met_layWay B.2 hf) rfl hW dd kk2
def f_bad (x1 : Int32) (σ : MS) : (Int32 × MS) := if (gi σ 7) = (1 : Int32) then (ev (si σ 10 (1 : Int32)) fun s4 => ev (si s4 11 (gi s4 6)) fun s5 => ((0 : Int32), s5)) else (ev (si σ 10 x1) fun s2 => ev (si s2 11 (gi s2 6)) fun s3 => ((0 : Int32), s3))
set_option maxHeartbeats 4000000 in
theorem w_bad_E {K : KT} {M : MT} {r : Int32} {τ : MS} (C : Kok K cX10_bad 2 RX10) (B : MB K M) (hr : (kMe K).sig.returnType = some .boolean) (dK : kR K = rmD 1) (hQ : KQm K M (some (.int r)) τ) (x1 : Int32) (σ : MS) (hf : f_bad x1 σ = (r, τ)) : XJ K 2 (Wm K M σ) 0 [(0, .ref (mO M)), (1, .int x1)] [] := by
  unfold f_bad at hf
  refine x_aload_n C dX10_bad_0 0 rfl ?_
  refine x_aload_n C dX10_bad_1 0 rfl ?_
  refine mg_7 C B dX10_bad_2 ?_
  refine x_iconst (1 : Int32) C dX10_bad_5 (by decide) ?_
  refine x_icmp_ne (tgt := 13) C dX10_bad_6 (by decide) (fun c1 => ?_) (fun c1 => ?_)
  · have hf := pf_f c1 hf
    refine x_iload_n C dX10_bad_13 1 rfl ?_
    refine mp_10 C B dX10_bad_14 ?_
    obtain ⟨s2, es2, hf⟩ := pf_e hf
    refine m_ren es2 ?_
    refine x_aload_n C dX10_bad_17 0 rfl ?_
    refine x_aload_n C dX10_bad_18 0 rfl ?_
    refine mg_6 C B dX10_bad_19 ?_
    refine mp_11 C B dX10_bad_22 ?_
    obtain ⟨s3, es3, hf⟩ := pf_e hf
    refine m_ren es3 ?_
    refine x_iconst (0 : Int32) C dX10_bad_25 (by decide) ?_
    obtain ⟨rfl, rfl⟩ := Prod.mk.inj hf
    exact m_zret C hr (Or.inl rfl) hQ dX10_bad_26
  · have hf := pf_t c1 hf
    refine x_iconst (1 : Int32) C dX10_bad_9 (by decide) ?_
    refine x_goto (tgt := 14) C dX10_bad_10 (by decide) ?_
    refine mp_10 C B dX10_bad_14 ?_
    obtain ⟨s4, es4, hf⟩ := pf_e hf
    refine m_ren es4 ?_
    refine x_aload_n C dX10_bad_17 0 rfl ?_
    refine x_aload_n C dX10_bad_18 0 rfl ?_
    refine mg_6 C B dX10_bad_19 ?_
    refine mp_11 C B dX10_bad_22 ?_
    obtain ⟨s5, es5, hf⟩ := pf_e hf
    refine m_ren es5 ?_
    refine x_iconst (0 : Int32) C dX10_bad_25 (by decide) ?_
    obtain ⟨rfl, rfl⟩ := Prod.mk.inj hf
    exact m_zret C hr (Or.inl rfl) hQ dX10_bad_26
theorem bz_bad_E {r : Int32} {τ : MS} {x1 : Int32} {σ : MS} (hf : f_bad x1 σ = (r, τ)) : r = 0 ∨ r = 1 := by
  unfold f_bad at hf
  by_cases c1 : (gi σ 7) = (1 : Int32)
  · have hf := pf_t c1 hf
    obtain ⟨s4, es4, hf⟩ := pf_e hf
    obtain ⟨s5, es5, hf⟩ := pf_e hf
    obtain ⟨rfl, rfl⟩ := Prod.mk.inj hf
    exact (Or.inl rfl)
  · have hf := pf_f c1 hf
    obtain ⟨s2, es2, hf⟩ := pf_e hf
    obtain ⟨s3, es3, hf⟩ := pf_e hf
    obtain ⟨rfl, rfl⟩ := Prod.mk.inj hf
    exact (Or.inl rfl)
theorem met_bad {M : MT} {v : (Int32 × MS)} {σ : MS} {x1 : Int32} {l : Launch} (hc : (mCl M)[mCi M]? = some (RX10, TX10, 61)) (hf : f_bad x1 σ = v) : Met l yX10_bad (ws_ yX10_bad cX10_bad 2 (some .boolean)) (rmD 1) (va_Pc [.ref (mO M), .int x1] (MU M σ)) (Qm M (some (.int v.1)) v.2) 0 0 (mAd M) :=
  m_met [.ref (mO M), .int x1] (by decide) rfl (Nat.le_of_ble_eq_true rfl) hc (fun K hl hR hr C B hQ => w_bad_E C B hr hR hQ _ _ hf)
theorem mc_bad {K : KT} {M : MT} {cc : ByteArray} {nL pc dk : Nat} {L : List (Nat × Value)} {rest : List Value} {σ : MS} {v : (Int32 × MS)} {x1 : Int32} (C : Kok K cc nL RX10) (B : MB K M) (dK : kR K = rmD dk) (hd : 1 + 1 ≤ dk) (hf : f_bad x1 σ = v) (hW : (rest.map fun v => v.category).sum ≤ 8) (dd : decode cc pc = .ok (.invokevirtual 72, 3)) (kk2 : XJ K nL (Wm K M v.2) (pc + 3) L ((.int v.1) :: rest)) : XJ K nL (Wm K M σ) pc L (.int x1 :: .ref (mO M) :: rest) :=
  m_callV (rest := rest) (v := (some (.int v.1))) [.int x1] 1 rfl C B dK hd (Nat.le_of_ble_eq_true rfl) (lw_V q2031 q2033 qs49 q133 q2034) (by decide +kernel) (met_bad B.2 hf) rfl hW dd kk2
def f_isSign (σ : MS) (x1 : Int32) : Int32 := if (gi σ 7) = (4 : Int32) then (if (gi σ 9) = x1 then ((1 : Int32)) else ((0 : Int32))) else ((0 : Int32))
set_option maxHeartbeats 4000000 in
theorem w_isSign_E {K : KT} {M : MT} {r : Int32} (σ : MS) (C : Kok K cX10_isSign 2 RX10) (B : MB K M) (hr : (kMe K).sig.returnType = some .boolean) (dK : kR K = rmD 1) (hQ : KQm K M (some (.int r)) σ) (x1 : Int32) (hf : f_isSign σ x1 = r) : XJ K 2 (Wm K M σ) 0 [(0, .ref (mO M)), (1, .int x1)] [] := by
  unfold f_isSign at hf
  refine x_aload_n C dX10_isSign_0 0 rfl ?_
  refine mg_7 C B dX10_isSign_1 ?_
  refine x_iconst (4 : Int32) C dX10_isSign_4 (by decide) ?_
  refine x_icmp_ne (tgt := 20) C dX10_isSign_5 (by decide) (fun c1 => ?_) (fun c1 => ?_)
  · have hf := pf_f c1 hf
    refine x_iconst (0 : Int32) C dX10_isSign_20 (by decide) ?_
    subst hf
    exact m_zret C hr (Or.inl rfl) hQ dX10_isSign_21
  · have hf := pf_t c1 hf
    refine x_aload_n C dX10_isSign_8 0 rfl ?_
    refine mg_9 C B dX10_isSign_9 ?_
    refine x_iload_n C dX10_isSign_12 1 rfl ?_
    refine x_icmp_ne (tgt := 20) C dX10_isSign_13 (by decide) (fun c2 => ?_) (fun c2 => ?_)
    · have hf := pf_f c2 hf
      refine x_iconst (0 : Int32) C dX10_isSign_20 (by decide) ?_
      subst hf
      exact m_zret C hr (Or.inl rfl) hQ dX10_isSign_21
    · have hf := pf_t c2 hf
      refine x_iconst (1 : Int32) C dX10_isSign_16 (by decide) ?_
      refine x_goto (tgt := 21) C dX10_isSign_17 (by decide) ?_
      subst hf
      exact m_zret C hr (Or.inr rfl) hQ dX10_isSign_21
theorem bz_isSign_E {r : Int32} {σ : MS} {x1 : Int32} (hf : f_isSign σ x1 = r) : r = 0 ∨ r = 1 := by
  unfold f_isSign at hf
  by_cases c1 : (gi σ 7) = (4 : Int32)
  · have hf := pf_t c1 hf
    by_cases c2 : (gi σ 9) = x1
    · have hf := pf_t c2 hf
      subst hf
      exact (Or.inr rfl)
    · have hf := pf_f c2 hf
      subst hf
      exact (Or.inl rfl)
  · have hf := pf_f c1 hf
    subst hf
    exact (Or.inl rfl)
theorem met_isSign {M : MT} {v : Int32} {σ : MS} {x1 : Int32} {l : Launch} (hc : (mCl M)[mCi M]? = some (RX10, TX10, 61)) (hf : f_isSign σ x1 = v) : Met l yX10_isSign (ws_ yX10_isSign cX10_isSign 2 (some .boolean)) (rmD 1) (va_Pc [.ref (mO M), .int x1] (MU M σ)) (Qm M (some (.int v)) σ) 0 0 (mAd M) :=
  m_met [.ref (mO M), .int x1] (by decide) rfl (Nat.le_of_ble_eq_true rfl) hc (fun K hl hR hr C B hQ => w_isSign_E _ C B hr hR hQ _ hf)
theorem mc_isSign {K : KT} {M : MT} {cc : ByteArray} {nL pc dk : Nat} {L : List (Nat × Value)} {rest : List Value} {σ : MS} {v : Int32} {x1 : Int32} (C : Kok K cc nL RX10) (B : MB K M) (dK : kR K = rmD dk) (hd : 1 + 1 ≤ dk) (hf : f_isSign σ x1 = v) (hW : (rest.map fun v => v.category).sum ≤ 8) (dd : decode cc pc = .ok (.invokevirtual 86, 3)) (kk2 : XJ K nL (Wm K M σ) (pc + 3) L ((.int v) :: rest)) : XJ K nL (Wm K M σ) pc L (.int x1 :: .ref (mO M) :: rest) :=
  m_callV (rest := rest) (v := (some (.int v))) [.int x1] 1 rfl C B dK hd (Nat.le_of_ble_eq_true rfl) (lw_V q2092 q2094 qs62 q133 q2095) (by decide +kernel) (met_isSign B.2 hf) rfl hW dd kk2
def f_readEnd (n : Nat) (σ : MS) : Option (Int32 × MS) := if (f_isSign σ (59 : Int32)) = 0 then (ev (f_bad (1 : Int32) σ) fun r3 => some (r3.1, r3.2)) else ((f_go n σ).bind fun r2 => some ((1 : Int32), r2))
set_option maxHeartbeats 4000000 in
theorem w_readEnd_E {K : KT} {M : MT} {r : Int32} {τ : MS} (n : Nat) (C : Kok K cX10_readEnd 1 RX10) (B : MB K M) (hr : (kMe K).sig.returnType = some .boolean) (dK : kR K = rmD 3) (hQ : KQm K M (some (.int r)) τ) (σ : MS) (hf : f_readEnd n σ = some (r, τ)) : XJ K 1 (Wm K M σ) 0 [(0, .ref (mO M))] [] := by
  unfold f_readEnd at hf
  refine x_aload_n C dX10_readEnd_0 0 rfl ?_
  refine x_bipush (59 : Int32) C dX10_readEnd_1 (by decide) ?_
  refine mc_isSign C B dK (Nat.le_of_ble_eq_true rfl) rfl (Nat.le_of_ble_eq_true rfl) dX10_readEnd_3 ?_
  refine x_if_ne (tgt := 15) C dX10_readEnd_6 (by decide) (fun c1 => ?_) (fun c1 => ?_)
  · have hf := pf_f c1 hf
    refine x_aload_n C dX10_readEnd_15 0 rfl ?_
    obtain ⟨r2, er2, hf⟩ := pf_b hf
    refine mc_go C B dK (Nat.le_of_ble_eq_true rfl) er2 (Nat.le_of_ble_eq_true rfl) dX10_readEnd_16 ?_
    refine x_iconst (1 : Int32) C dX10_readEnd_19 (by decide) ?_
    obtain ⟨rfl, rfl⟩ := Prod.mk.inj (Option.some.inj hf)
    exact m_zret C hr (Or.inr rfl) hQ dX10_readEnd_20
  · have hf := pf_t c1 hf
    refine x_aload_n C dX10_readEnd_9 0 rfl ?_
    refine x_iconst (1 : Int32) C dX10_readEnd_10 (by decide) ?_
    obtain ⟨r3, er3, hf⟩ := pf_e hf
    refine mc_bad C B dK (Nat.le_of_ble_eq_true rfl) er3.symm (Nat.le_of_ble_eq_true rfl) dX10_readEnd_11 ?_
    obtain ⟨rfl, rfl⟩ := Prod.mk.inj (Option.some.inj hf)
    exact m_zret C hr (bz_bad_E er3.symm) hQ dX10_readEnd_14
theorem bz_readEnd_E {r : Int32} {τ : MS} {n : Nat} {σ : MS} (hf : f_readEnd n σ = some (r, τ)) : r = 0 ∨ r = 1 := by
  unfold f_readEnd at hf
  by_cases c1 : (f_isSign σ (59 : Int32)) = 0
  · have hf := pf_t c1 hf
    obtain ⟨r3, er3, hf⟩ := pf_e hf
    obtain ⟨rfl, rfl⟩ := Prod.mk.inj (Option.some.inj hf)
    exact (bz_bad_E er3.symm)
  · have hf := pf_f c1 hf
    obtain ⟨r2, er2, hf⟩ := pf_b hf
    obtain ⟨rfl, rfl⟩ := Prod.mk.inj (Option.some.inj hf)
    exact (Or.inr rfl)
theorem met_readEnd {M : MT} {v : (Int32 × MS)} {n : Nat} {σ : MS} {l : Launch} (hc : (mCl M)[mCi M]? = some (RX10, TX10, 61)) (hf : f_readEnd n σ = some v) : Met l yX10_readEnd (ws_ yX10_readEnd cX10_readEnd 1 (some .boolean)) (rmD 3) (va_Pc [.ref (mO M)] (MU M σ)) (Qm M (some (.int v.1)) v.2) 0 0 (mAd M) :=
  m_met [.ref (mO M)] (by decide) rfl (Nat.le_of_ble_eq_true rfl) hc (fun K hl hR hr C B hQ => w_readEnd_E _ C B hr hR hQ _ hf)
theorem mc_readEnd {K : KT} {M : MT} {cc : ByteArray} {nL pc dk : Nat} {L : List (Nat × Value)} {rest : List Value} {σ : MS} {v : (Int32 × MS)} {n : Nat} (C : Kok K cc nL RX10) (B : MB K M) (dK : kR K = rmD dk) (hd : 3 + 1 ≤ dk) (hf : f_readEnd n σ = some v) (hW : (rest.map fun v => v.category).sum ≤ 8) (dd : decode cc pc = .ok (.invokevirtual 258, 3)) (kk2 : XJ K nL (Wm K M v.2) (pc + 3) L ((.int v.1) :: rest)) : XJ K nL (Wm K M σ) pc L (.ref (mO M) :: rest) :=
  m_callV (rest := rest) (v := (some (.int v.1))) [] 0 rfl C B dK hd (Nat.le_of_ble_eq_true rfl) (lw_V q2088 q2090 qs61 q133 q2091) (by decide +kernel) (met_readEnd B.2 hf) rfl hW dd kk2
def f_spelt_99 (x6 : Int32) (x7 : Int64) : Int64 := if x6 ≤ 0 then (x7) else (ev ((((27 : Int64) * x7) + (Int32.toInt64 x6)) - (96 : Int64)) fun v2 => v2)
set_option maxHeartbeats 4000000 in
theorem w_spelt_99 {K : KT} {M : MT} {r : Int64} {σ : MS} (C : Kok K cX10_spelt 9 RX10) (B : MB K M) (hr : (kMe K).sig.returnType = some .long) (dK : kR K = rmD 1) (hQ : KQm K M (some (.long r)) σ) (x6 : Int32) (x7 : Int64) (hf : f_spelt_99 x6 x7 = r) : XJ K 9 (Wm K M σ) 99 [(6, .int x6), (7, .long x7)] [] := by
  unfold f_spelt_99 at hf
  refine x_iload C dX10_spelt_99 0 rfl ?_
  refine x_if_le (tgt := 120) C dX10_spelt_101 (by decide) (fun c1 => ?_) (fun c1 => ?_)
  · have hf := pf_t c1 hf
    refine x_lload C dX10_spelt_120 1 rfl ?_
    subst hf
    exact m_lret C hr hQ dX10_spelt_122
  · have hf := pf_f c1 hf
    refine x_ldc2 C q2007 dX10_spelt_104 ?_
    refine x_lload C dX10_spelt_107 1 rfl ?_
    refine x_lmul C dX10_spelt_109 ?_
    refine x_iload C dX10_spelt_110 0 rfl ?_
    refine x_i2l C dX10_spelt_112 ?_
    refine x_ladd C dX10_spelt_113 ?_
    refine x_ldc2 C q2008 dX10_spelt_114 ?_
    refine x_lsub C dX10_spelt_117 ?_
    obtain ⟨v2, ev2, hf⟩ := pf_e hf
    refine x_toplr ev2 ?_
    refine x_lstore (L' := [(7, .long v2)]) C dX10_spelt_118 (Nat.le_of_ble_eq_true rfl) [0] rfl ?_
    refine x_lload C dX10_spelt_120 0 rfl ?_
    subst hf
    exact m_lret C hr hQ dX10_spelt_122
def f_spelt_78 (x5 : Int32) (x6 : Int32) (x7 : Int64) : Int64 := if x5 ≤ 0 then (f_spelt_99 x6 x7) else (ev ((((27 : Int64) * x7) + (Int32.toInt64 x5)) - (96 : Int64)) fun v2 => f_spelt_99 x6 v2)
set_option maxHeartbeats 4000000 in
theorem w_spelt_78 {K : KT} {M : MT} {r : Int64} {σ : MS} (C : Kok K cX10_spelt 9 RX10) (B : MB K M) (hr : (kMe K).sig.returnType = some .long) (dK : kR K = rmD 1) (hQ : KQm K M (some (.long r)) σ) (x5 : Int32) (x6 : Int32) (x7 : Int64) (hf : f_spelt_78 x5 x6 x7 = r) : XJ K 9 (Wm K M σ) 78 [(5, .int x5), (6, .int x6), (7, .long x7)] [] := by
  unfold f_spelt_78 at hf
  refine x_iload C dX10_spelt_78 0 rfl ?_
  refine x_if_le (tgt := 99) C dX10_spelt_80 (by decide) (fun c1 => ?_) (fun c1 => ?_)
  · have hf := pf_t c1 hf
    refine x_sub [1, 2] (L' := [(6, .int x6), (7, .long x7)]) rfl ?_
    exact w_spelt_99 C B hr dK hQ x6 x7 hf
  · have hf := pf_f c1 hf
    refine x_ldc2 C q2007 dX10_spelt_83 ?_
    refine x_lload C dX10_spelt_86 2 rfl ?_
    refine x_lmul C dX10_spelt_88 ?_
    refine x_iload C dX10_spelt_89 0 rfl ?_
    refine x_i2l C dX10_spelt_91 ?_
    refine x_ladd C dX10_spelt_92 ?_
    refine x_ldc2 C q2008 dX10_spelt_93 ?_
    refine x_lsub C dX10_spelt_96 ?_
    obtain ⟨v2, ev2, hf⟩ := pf_e hf
    refine x_toplr ev2 ?_
    refine x_lstore (L' := [(6, .int x6), (7, .long v2)]) C dX10_spelt_97 (Nat.le_of_ble_eq_true rfl) [2, 0] rfl ?_
    exact w_spelt_99 C B hr dK hQ x6 v2 hf
def f_spelt_57 (x4 : Int32) (x5 : Int32) (x6 : Int32) (x7 : Int64) : Int64 := if x4 ≤ 0 then (f_spelt_78 x5 x6 x7) else (ev ((((27 : Int64) * x7) + (Int32.toInt64 x4)) - (96 : Int64)) fun v2 => f_spelt_78 x5 x6 v2)
set_option maxHeartbeats 4000000 in
theorem w_spelt_57 {K : KT} {M : MT} {r : Int64} {σ : MS} (C : Kok K cX10_spelt 9 RX10) (B : MB K M) (hr : (kMe K).sig.returnType = some .long) (dK : kR K = rmD 1) (hQ : KQm K M (some (.long r)) σ) (x4 : Int32) (x5 : Int32) (x6 : Int32) (x7 : Int64) (hf : f_spelt_57 x4 x5 x6 x7 = r) : XJ K 9 (Wm K M σ) 57 [(4, .int x4), (5, .int x5), (6, .int x6), (7, .long x7)] [] := by
  unfold f_spelt_57 at hf
  refine x_iload C dX10_spelt_57 0 rfl ?_
  refine x_if_le (tgt := 78) C dX10_spelt_59 (by decide) (fun c1 => ?_) (fun c1 => ?_)
  · have hf := pf_t c1 hf
    refine x_sub [1, 2, 3] (L' := [(5, .int x5), (6, .int x6), (7, .long x7)]) rfl ?_
    exact w_spelt_78 C B hr dK hQ x5 x6 x7 hf
  · have hf := pf_f c1 hf
    refine x_ldc2 C q2007 dX10_spelt_62 ?_
    refine x_lload C dX10_spelt_65 3 rfl ?_
    refine x_lmul C dX10_spelt_67 ?_
    refine x_iload C dX10_spelt_68 0 rfl ?_
    refine x_i2l C dX10_spelt_70 ?_
    refine x_ladd C dX10_spelt_71 ?_
    refine x_ldc2 C q2008 dX10_spelt_72 ?_
    refine x_lsub C dX10_spelt_75 ?_
    obtain ⟨v2, ev2, hf⟩ := pf_e hf
    refine x_toplr ev2 ?_
    refine x_lstore (L' := [(5, .int x5), (6, .int x6), (7, .long v2)]) C dX10_spelt_76 (Nat.le_of_ble_eq_true rfl) [2, 3, 0] rfl ?_
    exact w_spelt_78 C B hr dK hQ x5 x6 v2 hf
def f_spelt_38 (x3 : Int32) (x4 : Int32) (x5 : Int32) (x6 : Int32) (x7 : Int64) : Int64 := if x3 ≤ 0 then (f_spelt_57 x4 x5 x6 x7) else (ev ((((27 : Int64) * x7) + (Int32.toInt64 x3)) - (96 : Int64)) fun v2 => f_spelt_57 x4 x5 x6 v2)
set_option maxHeartbeats 4000000 in
theorem w_spelt_38 {K : KT} {M : MT} {r : Int64} {σ : MS} (C : Kok K cX10_spelt 9 RX10) (B : MB K M) (hr : (kMe K).sig.returnType = some .long) (dK : kR K = rmD 1) (hQ : KQm K M (some (.long r)) σ) (x3 : Int32) (x4 : Int32) (x5 : Int32) (x6 : Int32) (x7 : Int64) (hf : f_spelt_38 x3 x4 x5 x6 x7 = r) : XJ K 9 (Wm K M σ) 38 [(3, .int x3), (4, .int x4), (5, .int x5), (6, .int x6), (7, .long x7)] [] := by
  unfold f_spelt_38 at hf
  refine x_iload_n C dX10_spelt_38 0 rfl ?_
  refine x_if_le (tgt := 57) C dX10_spelt_39 (by decide) (fun c1 => ?_) (fun c1 => ?_)
  · have hf := pf_t c1 hf
    refine x_sub [1, 2, 3, 4] (L' := [(4, .int x4), (5, .int x5), (6, .int x6), (7, .long x7)]) rfl ?_
    exact w_spelt_57 C B hr dK hQ x4 x5 x6 x7 hf
  · have hf := pf_f c1 hf
    refine x_ldc2 C q2007 dX10_spelt_42 ?_
    refine x_lload C dX10_spelt_45 4 rfl ?_
    refine x_lmul C dX10_spelt_47 ?_
    refine x_iload_n C dX10_spelt_48 0 rfl ?_
    refine x_i2l C dX10_spelt_49 ?_
    refine x_ladd C dX10_spelt_50 ?_
    refine x_ldc2 C q2008 dX10_spelt_51 ?_
    refine x_lsub C dX10_spelt_54 ?_
    obtain ⟨v2, ev2, hf⟩ := pf_e hf
    refine x_toplr ev2 ?_
    refine x_lstore (L' := [(4, .int x4), (5, .int x5), (6, .int x6), (7, .long v2)]) C dX10_spelt_55 (Nat.le_of_ble_eq_true rfl) [2, 3, 4, 0] rfl ?_
    exact w_spelt_57 C B hr dK hQ x4 x5 x6 v2 hf
def f_spelt (x0 : Int32) (x1 : Int32) (x2 : Int32) (x3 : Int32) (x4 : Int32) (x5 : Int32) (x6 : Int32) : Int64 := ev ((((27 : Int64) * ((Int32.toInt64 x0) - (96 : Int64))) + (Int32.toInt64 x1)) - (96 : Int64)) fun v1 => if x2 ≤ 0 then (f_spelt_38 x3 x4 x5 x6 v1) else (ev ((((27 : Int64) * v1) + (Int32.toInt64 x2)) - (96 : Int64)) fun v3 => f_spelt_38 x3 x4 x5 x6 v3)
set_option maxHeartbeats 4000000 in
theorem w_spelt_E {K : KT} {M : MT} {r : Int64} {σ : MS} (C : Kok K cX10_spelt 9 RX10) (B : MB K M) (hr : (kMe K).sig.returnType = some .long) (dK : kR K = rmD 1) (hQ : KQm K M (some (.long r)) σ) (x0 : Int32) (x1 : Int32) (x2 : Int32) (x3 : Int32) (x4 : Int32) (x5 : Int32) (x6 : Int32) (hf : f_spelt x0 x1 x2 x3 x4 x5 x6 = r) : XJ K 9 (Wm K M σ) 0 [(0, .int x0), (1, .int x1), (2, .int x2), (3, .int x3), (4, .int x4), (5, .int x5), (6, .int x6)] [] := by
  unfold f_spelt at hf
  refine x_ldc2 C q2007 dX10_spelt_0 ?_
  refine x_iload_n C dX10_spelt_3 0 rfl ?_
  refine x_i2l C dX10_spelt_4 ?_
  refine x_ldc2 C q2008 dX10_spelt_5 ?_
  refine x_lsub C dX10_spelt_8 ?_
  refine x_lmul C dX10_spelt_9 ?_
  refine x_iload_n C dX10_spelt_10 1 rfl ?_
  refine x_i2l C dX10_spelt_11 ?_
  refine x_ladd C dX10_spelt_12 ?_
  refine x_ldc2 C q2008 dX10_spelt_13 ?_
  refine x_lsub C dX10_spelt_16 ?_
  obtain ⟨v1, ev1, hf⟩ := pf_e hf
  refine x_toplr ev1 ?_
  refine x_lstore (L' := [(2, .int x2), (3, .int x3), (4, .int x4), (5, .int x5), (6, .int x6), (7, .long v1)]) C dX10_spelt_17 (Nat.le_of_ble_eq_true rfl) [3, 4, 5, 6, 7, 0] rfl ?_
  refine x_iload_n C dX10_spelt_19 0 rfl ?_
  refine x_if_le (tgt := 38) C dX10_spelt_20 (by decide) (fun c2 => ?_) (fun c2 => ?_)
  · have hf := pf_t c2 hf
    refine x_sub [1, 2, 3, 4, 5] (L' := [(3, .int x3), (4, .int x4), (5, .int x5), (6, .int x6), (7, .long v1)]) rfl ?_
    exact w_spelt_38 C B hr dK hQ x3 x4 x5 x6 v1 hf
  · have hf := pf_f c2 hf
    refine x_ldc2 C q2007 dX10_spelt_23 ?_
    refine x_lload C dX10_spelt_26 5 rfl ?_
    refine x_lmul C dX10_spelt_28 ?_
    refine x_iload_n C dX10_spelt_29 0 rfl ?_
    refine x_i2l C dX10_spelt_30 ?_
    refine x_ladd C dX10_spelt_31 ?_
    refine x_ldc2 C q2008 dX10_spelt_32 ?_
    refine x_lsub C dX10_spelt_35 ?_
    obtain ⟨v3, ev3, hf⟩ := pf_e hf
    refine x_toplr ev3 ?_
    refine x_lstore (L' := [(3, .int x3), (4, .int x4), (5, .int x5), (6, .int x6), (7, .long v3)]) C dX10_spelt_36 (Nat.le_of_ble_eq_true rfl) [2, 3, 4, 5, 0] rfl ?_
    exact w_spelt_38 C B hr dK hQ x3 x4 x5 x6 v3 hf
theorem met_spelt {M : MT} {v : Int64} {σ : MS} {x0 : Int32} {x1 : Int32} {x2 : Int32} {x3 : Int32} {x4 : Int32} {x5 : Int32} {x6 : Int32} {l : Launch} (hc : (mCl M)[mCi M]? = some (RX10, TX10, 61)) (hf : f_spelt x0 x1 x2 x3 x4 x5 x6 = v) : Met l yX10_spelt (ws_ yX10_spelt cX10_spelt 9 (some .long)) (rmD 1) (va_Pc [.int x0, .int x1, .int x2, .int x3, .int x4, .int x5, .int x6] (MU M σ)) (Qm M (some (.long v)) σ) 0 0 (mAd M) :=
  m_met [.int x0, .int x1, .int x2, .int x3, .int x4, .int x5, .int x6] (by decide) rfl (Nat.le_of_ble_eq_true rfl) hc (fun K hl hR hr C B hQ => w_spelt_E C B hr hR hQ _ _ _ _ _ _ _ hf)
theorem mc_spelt {K : KT} {M : MT} {cc : ByteArray} {nL pc dk : Nat} {L : List (Nat × Value)} {rest : List Value} {σ : MS} {v : Int64} {x0 : Int32} {x1 : Int32} {x2 : Int32} {x3 : Int32} {x4 : Int32} {x5 : Int32} {x6 : Int32} (C : Kok K cc nL RX10) (B : MB K M) (dK : kR K = rmD dk) (hd : 1 + 1 ≤ dk) (hf : f_spelt x0 x1 x2 x3 x4 x5 x6 = v) (hW : (rest.map fun v => v.category).sum ≤ 8) (dd : decode cc pc = .ok (.invokestatic 58, 3)) (kk2 : XJ K nL (Wm K M σ) (pc + 3) L ((.long v) :: rest)) : XJ K nL (Wm K M σ) pc L (.int x6 :: .int x5 :: .int x4 :: .int x3 :: .int x2 :: .int x1 :: .int x0 :: rest) :=
  m_callS (rest := rest) (v := (some (.long v))) [.int x0, .int x1, .int x2, .int x3, .int x4, .int x5, .int x6] 7 rfl C B dK hd (Nat.le_of_ble_eq_true rfl) (lw_S q2020 q2021 q133 q2022) (by decide +kernel) (met_spelt B.2 hf) rfl hW dd kk2
