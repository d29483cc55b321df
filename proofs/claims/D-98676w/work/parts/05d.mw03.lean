set_option maxRecDepth 100000
def f_whyShow (σ : MS) (x1 : Int32) (x2 : Int32) : Option Int32 := if (f_isEvicted σ x1) = 0 then (if inb ((202 : Int32) + x1) 532 = true then if (ga σ 14 (Int32.toNatClampNeg ((202 : Int32) + x1))) = x2 then (some (2 : Int32)) else (if inb ((218 : Int32) + x1) 532 = true then if (10 : Int32) ≤ (ga σ 14 (Int32.toNatClampNeg ((218 : Int32) + x1))) then (some (0 : Int32)) else (some (3 : Int32)) else none) else none) else (some (1 : Int32))
set_option maxHeartbeats 4000000 in
theorem w_whyShow_E {K : KT} {M : MT} {r : Int32} (σ : MS) (C : Kok K cX10_whyShow 3 RX10) (B : MB K M) (hr : (kMe K).sig.returnType = some .int) (dK : kR K = rmD 3) (hQ : KQm K M (some (.int r)) σ) (x1 : Int32) (x2 : Int32) (hf : f_whyShow σ x1 x2 = some r) : XJ K 3 (Wm K M σ) 0 [(0, .ref (mO M)), (1, .int x1), (2, .int x2)] [] := by
  unfold f_whyShow at hf
  refine x_aload_n C dX10_whyShow_0 0 rfl ?_
  refine x_iload_n C dX10_whyShow_1 1 rfl ?_
  refine mc_isEvicted C B dK (Nat.le_of_ble_eq_true rfl) rfl (Nat.le_of_ble_eq_true rfl) dX10_whyShow_2 ?_
  refine x_if_eq (tgt := 12) C dX10_whyShow_5 (by decide) (fun c1 => ?_) (fun c1 => ?_)
  · have hf := pf_t c1 hf
    refine x_aload_n C dX10_whyShow_12 0 rfl ?_
    refine mg_14 C B dX10_whyShow_13 ?_
    refine x_sipush (202 : Int32) C dX10_whyShow_16 (by decide) ?_
    refine x_iload_n C dX10_whyShow_19 1 rfl ?_
    refine x_iadd C dX10_whyShow_20 ?_
    obtain ⟨h2, hf⟩ := pf_in hf
    refine ml_14 C B h2 dX10_whyShow_21 ?_
    refine x_iload_n C dX10_whyShow_22 2 rfl ?_
    refine x_icmp_ne (tgt := 30) C dX10_whyShow_23 (by decide) (fun c3 => ?_) (fun c3 => ?_)
    · have hf := pf_f c3 hf
      refine x_aload_n C dX10_whyShow_30 0 rfl ?_
      refine mg_14 C B dX10_whyShow_31 ?_
      refine x_sipush (218 : Int32) C dX10_whyShow_34 (by decide) ?_
      refine x_iload_n C dX10_whyShow_37 1 rfl ?_
      refine x_iadd C dX10_whyShow_38 ?_
      obtain ⟨h4, hf⟩ := pf_in hf
      refine ml_14 C B h4 dX10_whyShow_39 ?_
      refine x_bipush (10 : Int32) C dX10_whyShow_40 (by decide) ?_
      refine x_icmp_ge (tgt := 49) C dX10_whyShow_42 (by decide) (fun c5 => ?_) (fun c5 => ?_)
      · have hf := pf_t c5 hf
        refine x_iconst (0 : Int32) C dX10_whyShow_49 (by decide) ?_
        obtain rfl := Option.some.inj hf
        exact m_iret C hr hQ dX10_whyShow_50
      · have hf := pf_f c5 hf
        refine x_iconst (3 : Int32) C dX10_whyShow_45 (by decide) ?_
        refine x_goto (tgt := 50) C dX10_whyShow_46 (by decide) ?_
        obtain rfl := Option.some.inj hf
        exact m_iret C hr hQ dX10_whyShow_50
    · have hf := pf_t c3 hf
      refine x_iconst (2 : Int32) C dX10_whyShow_26 (by decide) ?_
      refine x_goto (tgt := 50) C dX10_whyShow_27 (by decide) ?_
      obtain rfl := Option.some.inj hf
      exact m_iret C hr hQ dX10_whyShow_50
  · have hf := pf_f c1 hf
    refine x_iconst (1 : Int32) C dX10_whyShow_8 (by decide) ?_
    refine x_goto (tgt := 50) C dX10_whyShow_9 (by decide) ?_
    obtain rfl := Option.some.inj hf
    exact m_iret C hr hQ dX10_whyShow_50
theorem met_whyShow {M : MT} {v : Int32} {σ : MS} {x1 : Int32} {x2 : Int32} {l : Launch} (hc : (mCl M)[mCi M]? = some (RX10, TX10, 61)) (hf : f_whyShow σ x1 x2 = some v) : Met l yX10_whyShow (ws_ yX10_whyShow cX10_whyShow 3 (some .int)) (rmD 3) (va_Pc [.ref (mO M), .int x1, .int x2] (MU M σ)) (Qm M (some (.int v)) σ) 0 0 (mAd M) :=
  m_met [.ref (mO M), .int x1, .int x2] (by decide) rfl (Nat.le_of_ble_eq_true rfl) hc (fun K hl hR hr C B hQ => w_whyShow_E _ C B hr hR hQ _ _ hf)
theorem mc_whyShow {K : KT} {M : MT} {cc : ByteArray} {nL pc dk : Nat} {L : List (Nat × Value)} {rest : List Value} {σ : MS} {v : Int32} {x1 : Int32} {x2 : Int32} (C : Kok K cc nL RX10) (B : MB K M) (dK : kR K = rmD dk) (hd : 3 + 1 ≤ dk) (hf : f_whyShow σ x1 x2 = some v) (hW : (rest.map fun v => v.category).sum ≤ 8) (dd : decode cc pc = .ok (.invokevirtual 310, 3)) (kk2 : XJ K nL (Wm K M σ) (pc + 3) L ((.int v) :: rest)) : XJ K nL (Wm K M σ) pc L (.int x2 :: .int x1 :: .ref (mO M) :: rest) :=
  m_callV (rest := rest) (v := (some (.int v))) [.int x1, .int x2] 2 rfl C B dK hd (Nat.le_of_ble_eq_true rfl) (lw_V q2200 q2202 qs79 q133 q2203) (by decide +kernel) (met_whyShow B.2 hf) rfl hW dd kk2
def f_show (n : Nat) (x1 : Int32) (x2 : Int32) (σ : MS) : Option (Int32 × MS) := ev (si σ 0 (0 : Int32)) fun s1 => if (f_isStatue s1 x1) = 0 then (some ((-1 : Int32), s1)) else (if (f_isKind s1 x2) = 0 then (some ((-1 : Int32), s1)) else ((f_whyShow s1 x1 x2).bind fun r4 => if r4 = 0 then ((f_snap n s1).bind fun r6 => (f_doShow x1 x2 r6).bind fun r7 => some ((0 : Int32), r7)) else (some (r4, s1))))
set_option maxHeartbeats 4000000 in
theorem w_show_E {K : KT} {M : MT} {r : Int32} {τ : MS} (n : Nat) (C : Kok K cX10_show 4 RX10) (B : MB K M) (hr : (kMe K).sig.returnType = some .int) (dK : kR K = rmD 4) (hQ : KQm K M (some (.int r)) τ) (x1 : Int32) (x2 : Int32) (σ : MS) (hf : f_show n x1 x2 σ = some (r, τ)) : XJ K 4 (Wm K M σ) 0 [(0, .ref (mO M)), (1, .int x1), (2, .int x2)] [] := by
  unfold f_show at hf
  refine x_aload_n C dX10_show_0 0 rfl ?_
  refine x_iconst (0 : Int32) C dX10_show_1 (by decide) ?_
  refine mp_0 C B dX10_show_2 ?_
  obtain ⟨s1, es1, hf⟩ := pf_e hf
  refine m_ren es1 ?_
  refine x_aload_n C dX10_show_5 0 rfl ?_
  refine x_iload_n C dX10_show_6 1 rfl ?_
  refine mc_isStatue C B dK (Nat.le_of_ble_eq_true rfl) rfl (Nat.le_of_ble_eq_true rfl) dX10_show_7 ?_
  refine x_if_eq (tgt := 21) C dX10_show_10 (by decide) (fun c2 => ?_) (fun c2 => ?_)
  · have hf := pf_t c2 hf
    refine x_iconst (-1 : Int32) C dX10_show_21 (by decide) ?_
    obtain ⟨rfl, rfl⟩ := Prod.mk.inj (Option.some.inj hf)
    exact m_iret C hr hQ dX10_show_22
  · have hf := pf_f c2 hf
    refine x_aload_n C dX10_show_13 0 rfl ?_
    refine x_iload_n C dX10_show_14 2 rfl ?_
    refine mc_isKind C B dK (Nat.le_of_ble_eq_true rfl) rfl (Nat.le_of_ble_eq_true rfl) dX10_show_15 ?_
    refine x_if_ne (tgt := 23) C dX10_show_18 (by decide) (fun c3 => ?_) (fun c3 => ?_)
    · have hf := pf_f c3 hf
      refine x_aload_n C dX10_show_23 0 rfl ?_
      refine x_iload_n C dX10_show_24 1 rfl ?_
      refine x_iload_n C dX10_show_25 2 rfl ?_
      obtain ⟨r4, er4, hf⟩ := pf_b hf
      refine mc_whyShow C B dK (Nat.le_of_ble_eq_true rfl) er4 (Nat.le_of_ble_eq_true rfl) dX10_show_26 ?_
      refine x_istore_n (L' := [(0, .ref (mO M)), (1, .int x1), (2, .int x2), (3, .int r4)]) C dX10_show_29 (Nat.le_of_ble_eq_true rfl) [1, 2, 3, 0] rfl ?_
      refine x_iload_n C dX10_show_30 3 rfl ?_
      refine x_if_eq (tgt := 36) C dX10_show_31 (by decide) (fun c5 => ?_) (fun c5 => ?_)
      · have hf := pf_t c5 hf
        refine x_aload_n C dX10_show_36 0 rfl ?_
        obtain ⟨r6, er6, hf⟩ := pf_b hf
        refine mc_snap C B dK (Nat.le_of_ble_eq_true rfl) er6 (Nat.le_of_ble_eq_true rfl) dX10_show_37 ?_
        refine x_aload_n C dX10_show_40 0 rfl ?_
        refine x_iload_n C dX10_show_41 1 rfl ?_
        refine x_iload_n C dX10_show_42 2 rfl ?_
        obtain ⟨r7, er7, hf⟩ := pf_b hf
        refine mc_doShow C B dK (Nat.le_of_ble_eq_true rfl) er7 (Nat.le_of_ble_eq_true rfl) dX10_show_43 ?_
        refine x_iconst (0 : Int32) C dX10_show_46 (by decide) ?_
        obtain ⟨rfl, rfl⟩ := Prod.mk.inj (Option.some.inj hf)
        exact m_iret C hr hQ dX10_show_47
      · have hf := pf_f c5 hf
        refine x_iload_n C dX10_show_34 3 rfl ?_
        obtain ⟨rfl, rfl⟩ := Prod.mk.inj (Option.some.inj hf)
        exact m_iret C hr hQ dX10_show_35
    · have hf := pf_t c3 hf
      refine x_iconst (-1 : Int32) C dX10_show_21 (by decide) ?_
      obtain ⟨rfl, rfl⟩ := Prod.mk.inj (Option.some.inj hf)
      exact m_iret C hr hQ dX10_show_22
theorem met_show {M : MT} {v : (Int32 × MS)} {n : Nat} {σ : MS} {x1 : Int32} {x2 : Int32} {l : Launch} (hc : (mCl M)[mCi M]? = some (RX10, TX10, 61)) (hf : f_show n x1 x2 σ = some v) : Met l yX10_show (ws_ yX10_show cX10_show 4 (some .int)) (rmD 4) (va_Pc [.ref (mO M), .int x1, .int x2] (MU M σ)) (Qm M (some (.int v.1)) v.2) 0 0 (mAd M) :=
  m_met [.ref (mO M), .int x1, .int x2] (by decide) rfl (Nat.le_of_ble_eq_true rfl) hc (fun K hl hR hr C B hQ => w_show_E _ C B hr hR hQ _ _ _ hf)
def f_doLend (x1 : Int32) (x2 : Int32) (x3 : Int32) (σ : MS) : Option MS := if inb ((218 : Int32) + x1) 532 = true then if inb ((218 : Int32) + x1) 532 = true then ev (sa σ 14 (Int32.toNatClampNeg ((218 : Int32) + x1)) ((ga σ 14 (Int32.toNatClampNeg ((218 : Int32) + x1))) - x3)) fun s3 => if inb ((226 : Int32) + x2) 532 = true then if inb ((226 : Int32) + x2) 532 = true then ev (sa s3 14 (Int32.toNatClampNeg ((226 : Int32) + x2)) ((ga s3 14 (Int32.toNatClampNeg ((226 : Int32) + x2))) - x3)) fun s6 => some s6 else none else none else none else none
set_option maxHeartbeats 4000000 in
theorem w_doLend_E {K : KT} {M : MT} {τ : MS} (C : Kok K cX10_doLend 4 RX10) (B : MB K M) (hr : (kMe K).sig.returnType = none) (dK : kR K = rmD 1) (hQ : KQm K M none τ) (x1 : Int32) (x2 : Int32) (x3 : Int32) (σ : MS) (hf : f_doLend x1 x2 x3 σ = some τ) : XJ K 4 (Wm K M σ) 0 [(0, .ref (mO M)), (1, .int x1), (2, .int x2), (3, .int x3)] [] := by
  unfold f_doLend at hf
  refine x_aload_n C dX10_doLend_0 0 rfl ?_
  refine mg_14 C B dX10_doLend_1 ?_
  refine x_sipush (218 : Int32) C dX10_doLend_4 (by decide) ?_
  refine x_iload_n C dX10_doLend_7 1 rfl ?_
  refine x_iadd C dX10_doLend_8 ?_
  refine x_dup2_11 C dX10_doLend_9 rfl rfl ?_
  obtain ⟨h1, hf⟩ := pf_in hf
  refine ml_14 C B h1 dX10_doLend_10 ?_
  refine x_iload_n C dX10_doLend_11 3 rfl ?_
  refine x_isub C dX10_doLend_12 ?_
  obtain ⟨h2, hf⟩ := pf_in hf
  refine ms_14 C B h2 dX10_doLend_13 ?_
  obtain ⟨s3, es3, hf⟩ := pf_e hf
  refine m_ren es3 ?_
  refine x_aload_n C dX10_doLend_14 0 rfl ?_
  refine mg_14 C B dX10_doLend_15 ?_
  refine x_sipush (226 : Int32) C dX10_doLend_18 (by decide) ?_
  refine x_iload_n C dX10_doLend_21 2 rfl ?_
  refine x_iadd C dX10_doLend_22 ?_
  refine x_dup2_11 C dX10_doLend_23 rfl rfl ?_
  obtain ⟨h4, hf⟩ := pf_in hf
  refine ml_14 C B h4 dX10_doLend_24 ?_
  refine x_iload_n C dX10_doLend_25 3 rfl ?_
  refine x_isub C dX10_doLend_26 ?_
  obtain ⟨h5, hf⟩ := pf_in hf
  refine ms_14 C B h5 dX10_doLend_27 ?_
  obtain ⟨s6, es6, hf⟩ := pf_e hf
  refine m_ren es6 ?_
  obtain rfl := Option.some.inj hf
  exact m_vret C hr hQ dX10_doLend_28
theorem met_doLend {M : MT} {v : MS} {σ : MS} {x1 : Int32} {x2 : Int32} {x3 : Int32} {l : Launch} (hc : (mCl M)[mCi M]? = some (RX10, TX10, 61)) (hf : f_doLend x1 x2 x3 σ = some v) : Met l yX10_doLend (ws_ yX10_doLend cX10_doLend 4 none) (rmD 1) (va_Pc [.ref (mO M), .int x1, .int x2, .int x3] (MU M σ)) (Qm M none v) 0 0 (mAd M) :=
  m_met [.ref (mO M), .int x1, .int x2, .int x3] (by decide) rfl (Nat.le_of_ble_eq_true rfl) hc (fun K hl hR hr C B hQ => w_doLend_E C B hr hR hQ _ _ _ _ hf)
theorem mc_doLend {K : KT} {M : MT} {cc : ByteArray} {nL pc dk : Nat} {L : List (Nat × Value)} {rest : List Value} {σ : MS} {v : MS} {x1 : Int32} {x2 : Int32} {x3 : Int32} (C : Kok K cc nL RX10) (B : MB K M) (dK : kR K = rmD dk) (hd : 1 + 1 ≤ dk) (hf : f_doLend x1 x2 x3 σ = some v) (hW : (rest.map fun v => v.category).sum ≤ 8) (dd : decode cc pc = .ok (.invokevirtual 321, 3)) (kk2 : XJ K nL (Wm K M v) (pc + 3) L (rest)) : XJ K nL (Wm K M σ) pc L (.int x3 :: .int x2 :: .int x1 :: .ref (mO M) :: rest) :=
  m_callV (rest := rest) (v := none) [.int x1, .int x2, .int x3] 3 rfl C B dK hd (Nat.le_of_ble_eq_true rfl) (lw_V q2216 q2218 qs82 q133 q2219) (by decide +kernel) (met_doLend B.2 hf) rfl hW dd kk2
def f_whyLend (σ : MS) (x1 : Int32) (x2 : Int32) (x3 : Int32) : Option Int32 := if (f_isEvicted σ x1) = 0 then (if (f_isEvicted σ x2) = 0 then (if inb ((218 : Int32) + x1) 532 = true then if x3 ≤ (ga σ 14 (Int32.toNatClampNeg ((218 : Int32) + x1))) then (if inb ((226 : Int32) + x2) 532 = true then if x3 ≤ (ga σ 14 (Int32.toNatClampNeg ((226 : Int32) + x2))) then (some (0 : Int32)) else (some (3 : Int32)) else none) else (some (2 : Int32)) else none) else (some (1 : Int32))) else (some (1 : Int32))
set_option maxHeartbeats 4000000 in
theorem w_whyLend_E {K : KT} {M : MT} {r : Int32} (σ : MS) (C : Kok K cX10_whyLend 4 RX10) (B : MB K M) (hr : (kMe K).sig.returnType = some .int) (dK : kR K = rmD 3) (hQ : KQm K M (some (.int r)) σ) (x1 : Int32) (x2 : Int32) (x3 : Int32) (hf : f_whyLend σ x1 x2 x3 = some r) : XJ K 4 (Wm K M σ) 0 [(0, .ref (mO M)), (1, .int x1), (2, .int x2), (3, .int x3)] [] := by
  unfold f_whyLend at hf
  refine x_aload_n C dX10_whyLend_0 0 rfl ?_
  refine x_iload_n C dX10_whyLend_1 1 rfl ?_
  refine mc_isEvicted C B dK (Nat.le_of_ble_eq_true rfl) rfl (Nat.le_of_ble_eq_true rfl) dX10_whyLend_2 ?_
  refine x_if_ne (tgt := 16) C dX10_whyLend_5 (by decide) (fun c1 => ?_) (fun c1 => ?_)
  · have hf := pf_f c1 hf
    refine x_iconst (1 : Int32) C dX10_whyLend_16 (by decide) ?_
    refine x_goto (tgt := 57) C dX10_whyLend_17 (by decide) ?_
    obtain rfl := Option.some.inj hf
    exact m_iret C hr hQ dX10_whyLend_57
  · have hf := pf_t c1 hf
    refine x_aload_n C dX10_whyLend_8 0 rfl ?_
    refine x_iload_n C dX10_whyLend_9 2 rfl ?_
    refine mc_isEvicted C B dK (Nat.le_of_ble_eq_true rfl) rfl (Nat.le_of_ble_eq_true rfl) dX10_whyLend_10 ?_
    refine x_if_eq (tgt := 20) C dX10_whyLend_13 (by decide) (fun c2 => ?_) (fun c2 => ?_)
    · have hf := pf_t c2 hf
      refine x_aload_n C dX10_whyLend_20 0 rfl ?_
      refine mg_14 C B dX10_whyLend_21 ?_
      refine x_sipush (218 : Int32) C dX10_whyLend_24 (by decide) ?_
      refine x_iload_n C dX10_whyLend_27 1 rfl ?_
      refine x_iadd C dX10_whyLend_28 ?_
      obtain ⟨h3, hf⟩ := pf_in hf
      refine ml_14 C B h3 dX10_whyLend_29 ?_
      refine x_iload_n C dX10_whyLend_30 3 rfl ?_
      refine x_icmp_ge (tgt := 38) C dX10_whyLend_31 (by decide) (fun c4 => ?_) (fun c4 => ?_)
      · have hf := pf_t c4 hf
        refine x_aload_n C dX10_whyLend_38 0 rfl ?_
        refine mg_14 C B dX10_whyLend_39 ?_
        refine x_sipush (226 : Int32) C dX10_whyLend_42 (by decide) ?_
        refine x_iload_n C dX10_whyLend_45 2 rfl ?_
        refine x_iadd C dX10_whyLend_46 ?_
        obtain ⟨h5, hf⟩ := pf_in hf
        refine ml_14 C B h5 dX10_whyLend_47 ?_
        refine x_iload_n C dX10_whyLend_48 3 rfl ?_
        refine x_icmp_ge (tgt := 56) C dX10_whyLend_49 (by decide) (fun c6 => ?_) (fun c6 => ?_)
        · have hf := pf_t c6 hf
          refine x_iconst (0 : Int32) C dX10_whyLend_56 (by decide) ?_
          obtain rfl := Option.some.inj hf
          exact m_iret C hr hQ dX10_whyLend_57
        · have hf := pf_f c6 hf
          refine x_iconst (3 : Int32) C dX10_whyLend_52 (by decide) ?_
          refine x_goto (tgt := 57) C dX10_whyLend_53 (by decide) ?_
          obtain rfl := Option.some.inj hf
          exact m_iret C hr hQ dX10_whyLend_57
      · have hf := pf_f c4 hf
        refine x_iconst (2 : Int32) C dX10_whyLend_34 (by decide) ?_
        refine x_goto (tgt := 57) C dX10_whyLend_35 (by decide) ?_
        obtain rfl := Option.some.inj hf
        exact m_iret C hr hQ dX10_whyLend_57
    · have hf := pf_f c2 hf
      refine x_iconst (1 : Int32) C dX10_whyLend_16 (by decide) ?_
      refine x_goto (tgt := 57) C dX10_whyLend_17 (by decide) ?_
      obtain rfl := Option.some.inj hf
      exact m_iret C hr hQ dX10_whyLend_57
theorem met_whyLend {M : MT} {v : Int32} {σ : MS} {x1 : Int32} {x2 : Int32} {x3 : Int32} {l : Launch} (hc : (mCl M)[mCi M]? = some (RX10, TX10, 61)) (hf : f_whyLend σ x1 x2 x3 = some v) : Met l yX10_whyLend (ws_ yX10_whyLend cX10_whyLend 4 (some .int)) (rmD 3) (va_Pc [.ref (mO M), .int x1, .int x2, .int x3] (MU M σ)) (Qm M (some (.int v)) σ) 0 0 (mAd M) :=
  m_met [.ref (mO M), .int x1, .int x2, .int x3] (by decide) rfl (Nat.le_of_ble_eq_true rfl) hc (fun K hl hR hr C B hQ => w_whyLend_E _ C B hr hR hQ _ _ _ hf)
theorem mc_whyLend {K : KT} {M : MT} {cc : ByteArray} {nL pc dk : Nat} {L : List (Nat × Value)} {rest : List Value} {σ : MS} {v : Int32} {x1 : Int32} {x2 : Int32} {x3 : Int32} (C : Kok K cc nL RX10) (B : MB K M) (dK : kR K = rmD dk) (hd : 3 + 1 ≤ dk) (hf : f_whyLend σ x1 x2 x3 = some v) (hW : (rest.map fun v => v.category).sum ≤ 8) (dd : decode cc pc = .ok (.invokevirtual 317, 3)) (kk2 : XJ K nL (Wm K M σ) (pc + 3) L ((.int v) :: rest)) : XJ K nL (Wm K M σ) pc L (.int x3 :: .int x2 :: .int x1 :: .ref (mO M) :: rest) :=
  m_callV (rest := rest) (v := (some (.int v))) [.int x1, .int x2, .int x3] 3 rfl C B dK hd (Nat.le_of_ble_eq_true rfl) (lw_V q2212 q2214 qs81 q133 q2215) (by decide +kernel) (met_whyLend B.2 hf) rfl hW dd kk2
def f_lend (n : Nat) (x1 : Int32) (x2 : Int32) (x3 : Int32) (σ : MS) : Option (Int32 × MS) := ev (si σ 0 (0 : Int32)) fun s1 => if (f_isStatue s1 x1) = 0 then (some ((-1 : Int32), s1)) else (if (f_isStatue s1 x2) = 0 then (some ((-1 : Int32), s1)) else (if x1 = x2 then (some ((-1 : Int32), s1)) else (if (f_isIn x3 (1 : Int32) (99 : Int32)) = 0 then (some ((-1 : Int32), s1)) else ((f_whyLend s1 x1 x2 x3).bind fun r6 => if r6 = 0 then ((f_snap n s1).bind fun r8 => (f_doLend x1 x2 x3 r8).bind fun r9 => some ((0 : Int32), r9)) else (some (r6, s1))))))
set_option maxHeartbeats 4000000 in
theorem w_lend_E {K : KT} {M : MT} {r : Int32} {τ : MS} (n : Nat) (C : Kok K cX10_lend 5 RX10) (B : MB K M) (hr : (kMe K).sig.returnType = some .int) (dK : kR K = rmD 4) (hQ : KQm K M (some (.int r)) τ) (x1 : Int32) (x2 : Int32) (x3 : Int32) (σ : MS) (hf : f_lend n x1 x2 x3 σ = some (r, τ)) : XJ K 5 (Wm K M σ) 0 [(0, .ref (mO M)), (1, .int x1), (2, .int x2), (3, .int x3)] [] := by
  unfold f_lend at hf
  refine x_aload_n C dX10_lend_0 0 rfl ?_
  refine x_iconst (0 : Int32) C dX10_lend_1 (by decide) ?_
  refine mp_0 C B dX10_lend_2 ?_
  obtain ⟨s1, es1, hf⟩ := pf_e hf
  refine m_ren es1 ?_
  refine x_aload_n C dX10_lend_5 0 rfl ?_
  refine x_iload_n C dX10_lend_6 1 rfl ?_
  refine mc_isStatue C B dK (Nat.le_of_ble_eq_true rfl) rfl (Nat.le_of_ble_eq_true rfl) dX10_lend_7 ?_
  refine x_if_eq (tgt := 36) C dX10_lend_10 (by decide) (fun c2 => ?_) (fun c2 => ?_)
  · have hf := pf_t c2 hf
    refine x_iconst (-1 : Int32) C dX10_lend_36 (by decide) ?_
    obtain ⟨rfl, rfl⟩ := Prod.mk.inj (Option.some.inj hf)
    exact m_iret C hr hQ dX10_lend_37
  · have hf := pf_f c2 hf
    refine x_aload_n C dX10_lend_13 0 rfl ?_
    refine x_iload_n C dX10_lend_14 2 rfl ?_
    refine mc_isStatue C B dK (Nat.le_of_ble_eq_true rfl) rfl (Nat.le_of_ble_eq_true rfl) dX10_lend_15 ?_
    refine x_if_eq (tgt := 36) C dX10_lend_18 (by decide) (fun c3 => ?_) (fun c3 => ?_)
    · have hf := pf_t c3 hf
      refine x_iconst (-1 : Int32) C dX10_lend_36 (by decide) ?_
      obtain ⟨rfl, rfl⟩ := Prod.mk.inj (Option.some.inj hf)
      exact m_iret C hr hQ dX10_lend_37
    · have hf := pf_f c3 hf
      refine x_iload_n C dX10_lend_21 1 rfl ?_
      refine x_iload_n C dX10_lend_22 2 rfl ?_
      refine x_icmp_eq (tgt := 36) C dX10_lend_23 (by decide) (fun c4 => ?_) (fun c4 => ?_)
      · have hf := pf_t c4 hf
        refine x_iconst (-1 : Int32) C dX10_lend_36 (by decide) ?_
        obtain ⟨rfl, rfl⟩ := Prod.mk.inj (Option.some.inj hf)
        exact m_iret C hr hQ dX10_lend_37
      · have hf := pf_f c4 hf
        refine x_iload_n C dX10_lend_26 3 rfl ?_
        refine x_iconst (1 : Int32) C dX10_lend_27 (by decide) ?_
        refine x_bipush (99 : Int32) C dX10_lend_28 (by decide) ?_
        refine mc_isIn C B dK (Nat.le_of_ble_eq_true rfl) rfl (Nat.le_of_ble_eq_true rfl) dX10_lend_30 ?_
        refine x_if_ne (tgt := 38) C dX10_lend_33 (by decide) (fun c5 => ?_) (fun c5 => ?_)
        · have hf := pf_f c5 hf
          refine x_aload_n C dX10_lend_38 0 rfl ?_
          refine x_iload_n C dX10_lend_39 1 rfl ?_
          refine x_iload_n C dX10_lend_40 2 rfl ?_
          refine x_iload_n C dX10_lend_41 3 rfl ?_
          obtain ⟨r6, er6, hf⟩ := pf_b hf
          refine mc_whyLend C B dK (Nat.le_of_ble_eq_true rfl) er6 (Nat.le_of_ble_eq_true rfl) dX10_lend_42 ?_
          refine x_istore (L' := [(0, .ref (mO M)), (1, .int x1), (2, .int x2), (3, .int x3), (4, .int r6)]) C dX10_lend_45 (Nat.le_of_ble_eq_true rfl) [1, 2, 3, 4, 0] rfl ?_
          refine x_iload C dX10_lend_47 4 rfl ?_
          refine x_if_eq (tgt := 55) C dX10_lend_49 (by decide) (fun c7 => ?_) (fun c7 => ?_)
          · have hf := pf_t c7 hf
            refine x_aload_n C dX10_lend_55 0 rfl ?_
            obtain ⟨r8, er8, hf⟩ := pf_b hf
            refine mc_snap C B dK (Nat.le_of_ble_eq_true rfl) er8 (Nat.le_of_ble_eq_true rfl) dX10_lend_56 ?_
            refine x_aload_n C dX10_lend_59 0 rfl ?_
            refine x_iload_n C dX10_lend_60 1 rfl ?_
            refine x_iload_n C dX10_lend_61 2 rfl ?_
            refine x_iload_n C dX10_lend_62 3 rfl ?_
            obtain ⟨r9, er9, hf⟩ := pf_b hf
            refine mc_doLend C B dK (Nat.le_of_ble_eq_true rfl) er9 (Nat.le_of_ble_eq_true rfl) dX10_lend_63 ?_
            refine x_iconst (0 : Int32) C dX10_lend_66 (by decide) ?_
            obtain ⟨rfl, rfl⟩ := Prod.mk.inj (Option.some.inj hf)
            exact m_iret C hr hQ dX10_lend_67
          · have hf := pf_f c7 hf
            refine x_iload C dX10_lend_52 4 rfl ?_
            obtain ⟨rfl, rfl⟩ := Prod.mk.inj (Option.some.inj hf)
            exact m_iret C hr hQ dX10_lend_54
        · have hf := pf_t c5 hf
          refine x_iconst (-1 : Int32) C dX10_lend_36 (by decide) ?_
          obtain ⟨rfl, rfl⟩ := Prod.mk.inj (Option.some.inj hf)
          exact m_iret C hr hQ dX10_lend_37
theorem met_lend {M : MT} {v : (Int32 × MS)} {n : Nat} {σ : MS} {x1 : Int32} {x2 : Int32} {x3 : Int32} {l : Launch} (hc : (mCl M)[mCi M]? = some (RX10, TX10, 61)) (hf : f_lend n x1 x2 x3 σ = some v) : Met l yX10_lend (ws_ yX10_lend cX10_lend 5 (some .int)) (rmD 4) (va_Pc [.ref (mO M), .int x1, .int x2, .int x3] (MU M σ)) (Qm M (some (.int v.1)) v.2) 0 0 (mAd M) :=
  m_met [.ref (mO M), .int x1, .int x2, .int x3] (by decide) rfl (Nat.le_of_ble_eq_true rfl) hc (fun K hl hR hr C B hQ => w_lend_E _ C B hr hR hQ _ _ _ _ hf)
def f_undo_26 (n : Nat) : Nat → Int32 → MS → Option (Int32 × MS)
  | 0, _, _ => none
  | m + 1, x1, σ => if (92 : Int32) ≤ x1 then (some (gi σ 24, σ)) else (if inb (((92 : Int32) * (gi σ 24)) + x1) 736 = true then if inb ((198 : Int32) + x1) 532 = true then ev (sa σ 14 (Int32.toNatClampNeg ((198 : Int32) + x1)) (ga σ 17 (Int32.toNatClampNeg (((92 : Int32) * (gi σ 24)) + x1)))) fun s4 => f_undo_26 n m (x1 + (1 : Int32)) s4 else none else none)
set_option maxHeartbeats 4000000 in
theorem w_undo_26 {K : KT} {M : MT} {r : Int32} {τ : MS} (n : Nat) (C : Kok K cX10_undo 2 RX10) (B : MB K M) (hr : (kMe K).sig.returnType = some .int) (dK : kR K = rmD 1) (hQ : KQm K M (some (.int r)) τ) : ∀ (m : Nat) (x1 : Int32) (σ : MS) (hf : f_undo_26 n m x1 σ = some (r, τ)), XJ K 2 (Wm K M σ) 26 [(0, .ref (mO M)), (1, .int x1)] [] := by
  intro m
  induction m with
  | zero => intro x1 σ hf; cases hf
  | succ m ih =>
    intro x1 σ hf
    rw [f_undo_26] at hf
    refine x_iload_n C dX10_undo_26 1 rfl ?_
    refine x_bipush (92 : Int32) C dX10_undo_27 (by decide) ?_
    refine x_icmp_ge (tgt := 62) C dX10_undo_29 (by decide) (fun c1 => ?_) (fun c1 => ?_)
    · have hf := pf_t c1 hf
      refine x_aload_n C dX10_undo_62 0 rfl ?_
      refine mg_24 C B dX10_undo_63 ?_
      obtain ⟨rfl, rfl⟩ := Prod.mk.inj (Option.some.inj hf)
      exact m_iret C hr hQ dX10_undo_66
    · have hf := pf_f c1 hf
      refine x_aload_n C dX10_undo_32 0 rfl ?_
      refine mg_14 C B dX10_undo_33 ?_
      refine x_sipush (198 : Int32) C dX10_undo_36 (by decide) ?_
      refine x_iload_n C dX10_undo_39 1 rfl ?_
      refine x_iadd C dX10_undo_40 ?_
      refine x_aload_n C dX10_undo_41 0 rfl ?_
      refine mg_17 C B dX10_undo_42 ?_
      refine x_bipush (92 : Int32) C dX10_undo_45 (by decide) ?_
      refine x_aload_n C dX10_undo_47 0 rfl ?_
      refine mg_24 C B dX10_undo_48 ?_
      refine x_imul C dX10_undo_51 ?_
      refine x_iload_n C dX10_undo_52 1 rfl ?_
      refine x_iadd C dX10_undo_53 ?_
      obtain ⟨h2, hf⟩ := pf_in hf
      refine ml_17 C B h2 dX10_undo_54 ?_
      obtain ⟨h3, hf⟩ := pf_in hf
      refine ms_14 C B h3 dX10_undo_55 ?_
      obtain ⟨s4, es4, hf⟩ := pf_e hf
      refine m_ren es4 ?_
      refine x_inc (c := (1 : Int32)) (L' := [(0, .ref (mO M)), (1, .int (x1 + (1 : Int32)))]) C dX10_undo_56 1 rfl (by decide) (Nat.le_of_ble_eq_true rfl) [1, 0] rfl ?_
      refine x_goto (tgt := 26) C dX10_undo_59 (by decide) ?_
      exact ih (x1 + (1 : Int32)) _ hf
def f_undo (n : Nat) (σ : MS) : Option (Int32 × MS) := ev (si σ 0 (0 : Int32)) fun s1 => if (gi s1 24) = 0 then (some ((-1 : Int32), s1)) else (ev (si s1 24 ((gi s1 24) - (1 : Int32))) fun s3 => f_undo_26 n n (0 : Int32) s3)
set_option maxHeartbeats 4000000 in
theorem w_undo_E {K : KT} {M : MT} {r : Int32} {τ : MS} (n : Nat) (C : Kok K cX10_undo 2 RX10) (B : MB K M) (hr : (kMe K).sig.returnType = some .int) (dK : kR K = rmD 1) (hQ : KQm K M (some (.int r)) τ) (σ : MS) (hf : f_undo n σ = some (r, τ)) : XJ K 2 (Wm K M σ) 0 [(0, .ref (mO M))] [] := by
  unfold f_undo at hf
  refine x_aload_n C dX10_undo_0 0 rfl ?_
  refine x_iconst (0 : Int32) C dX10_undo_1 (by decide) ?_
  refine mp_0 C B dX10_undo_2 ?_
  obtain ⟨s1, es1, hf⟩ := pf_e hf
  refine m_ren es1 ?_
  refine x_aload_n C dX10_undo_5 0 rfl ?_
  refine mg_24 C B dX10_undo_6 ?_
  refine x_if_ne (tgt := 14) C dX10_undo_9 (by decide) (fun c2 => ?_) (fun c2 => ?_)
  · have hf := pf_f c2 hf
    refine x_aload_n C dX10_undo_14 0 rfl ?_
    refine x_dup C dX10_undo_15 rfl ?_
    refine mg_24 C B dX10_undo_16 ?_
    refine x_iconst (1 : Int32) C dX10_undo_19 (by decide) ?_
    refine x_isub C dX10_undo_20 ?_
    refine mp_24 C B dX10_undo_21 ?_
    obtain ⟨s3, es3, hf⟩ := pf_e hf
    refine m_ren es3 ?_
    refine x_iconst (0 : Int32) C dX10_undo_24 (by decide) ?_
    refine x_istore_n (L' := [(0, .ref (mO M)), (1, .int (0 : Int32))]) C dX10_undo_25 (Nat.le_of_ble_eq_true rfl) [1, 0] rfl ?_
    exact w_undo_26 n C B hr dK hQ n (0 : Int32) _ hf
  · have hf := pf_t c2 hf
    refine x_iconst (-1 : Int32) C dX10_undo_12 (by decide) ?_
    obtain ⟨rfl, rfl⟩ := Prod.mk.inj (Option.some.inj hf)
    exact m_iret C hr hQ dX10_undo_13
theorem met_undo {M : MT} {v : (Int32 × MS)} {n : Nat} {σ : MS} {l : Launch} (hc : (mCl M)[mCi M]? = some (RX10, TX10, 61)) (hf : f_undo n σ = some v) : Met l yX10_undo (ws_ yX10_undo cX10_undo 2 (some .int)) (rmD 1) (va_Pc [.ref (mO M)] (MU M σ)) (Qm M (some (.int v.1)) v.2) 0 0 (mAd M) :=
  m_met [.ref (mO M)] (by decide) rfl (Nat.le_of_ble_eq_true rfl) hc (fun K hl hR hr C B hQ => w_undo_E _ C B hr hR hQ _ hf)
def f_least (x0 : Int32) (x1 : Int32) : Int32 := if x1 ≤ x0 then (x1) else (x0)
set_option maxHeartbeats 4000000 in
theorem w_least_E {K : KT} {M : MT} {r : Int32} {σ : MS} (C : Kok K cX10_least 2 RX10) (B : MB K M) (hr : (kMe K).sig.returnType = some .int) (dK : kR K = rmD 1) (hQ : KQm K M (some (.int r)) σ) (x0 : Int32) (x1 : Int32) (hf : f_least x0 x1 = r) : XJ K 2 (Wm K M σ) 0 [(0, .int x0), (1, .int x1)] [] := by
  unfold f_least at hf
  refine x_iload_n C dX10_least_0 0 rfl ?_
  refine x_iload_n C dX10_least_1 1 rfl ?_
  refine x_icmp_ge (tgt := 9) C dX10_least_2 (by decide) (fun c1 => ?_) (fun c1 => ?_)
  · have hf := pf_t c1 hf
    refine x_iload_n C dX10_least_9 1 rfl ?_
    subst hf
    exact m_iret C hr hQ dX10_least_10
  · have hf := pf_f c1 hf
    refine x_iload_n C dX10_least_5 0 rfl ?_
    refine x_goto (tgt := 10) C dX10_least_6 (by decide) ?_
    subst hf
    exact m_iret C hr hQ dX10_least_10
theorem met_least {M : MT} {v : Int32} {σ : MS} {x0 : Int32} {x1 : Int32} {l : Launch} (hc : (mCl M)[mCi M]? = some (RX10, TX10, 61)) (hf : f_least x0 x1 = v) : Met l yX10_least (ws_ yX10_least cX10_least 2 (some .int)) (rmD 1) (va_Pc [.int x0, .int x1] (MU M σ)) (Qm M (some (.int v)) σ) 0 0 (mAd M) :=
  m_met [.int x0, .int x1] (by decide) rfl (Nat.le_of_ble_eq_true rfl) hc (fun K hl hR hr C B hQ => w_least_E C B hr hR hQ _ _ hf)
theorem mc_least {K : KT} {M : MT} {cc : ByteArray} {nL pc dk : Nat} {L : List (Nat × Value)} {rest : List Value} {σ : MS} {v : Int32} {x0 : Int32} {x1 : Int32} (C : Kok K cc nL RX10) (B : MB K M) (dK : kR K = rmD dk) (hd : 1 + 1 ≤ dk) (hf : f_least x0 x1 = v) (hW : (rest.map fun v => v.category).sum ≤ 8) (dd : decode cc pc = .ok (.invokestatic 336, 3)) (kk2 : XJ K nL (Wm K M σ) (pc + 3) L ((.int v) :: rest)) : XJ K nL (Wm K M σ) pc L (.int x1 :: .int x0 :: rest) :=
  m_callS (rest := rest) (v := (some (.int v))) [.int x0, .int x1] 2 rfl C B dK hd (Nat.le_of_ble_eq_true rfl) (lw_S q2232 q2233 q133 q2234) (by decide +kernel) (met_least B.2 hf) rfl hW dd kk2
def f_dawn_2 (n : Nat) : Nat → Int32 → MS → Option MS
  | 0, _, _ => none
  | m + 1, x1, σ => if (ga σ 14 3) ≤ x1 then (some σ) else (if (f_isEvicted σ x1) = 0 then (if inb ((226 : Int32) + x1) 532 = true then if inb ((210 : Int32) + x1) 532 = true then if inb ((6 : Int32) + (ga σ 14 (Int32.toNatClampNeg ((210 : Int32) + x1)))) 532 = true then if ((ga σ 14 5) * (ga σ 14 (Int32.toNatClampNeg ((6 : Int32) + (ga σ 14 (Int32.toNatClampNeg ((210 : Int32) + x1))))))) < (ga σ 14 (Int32.toNatClampNeg ((226 : Int32) + x1))) then (ev (sa σ 14 201 ((ga σ 14 201) ||| ((1 : Int32) <<< (x1 &&& 31)))) fun s7 => if inb ((210 : Int32) + x1) 532 = true then ev (sa s7 14 (Int32.toNatClampNeg ((210 : Int32) + x1)) (-1 : Int32)) fun s9 => f_dawn_2 n m (x1 + (1 : Int32)) s9 else none) else (f_dawn_2 n m (x1 + (1 : Int32)) σ) else none else none else none) else (f_dawn_2 n m (x1 + (1 : Int32)) σ))
set_option maxHeartbeats 4000000 in
theorem w_dawn_2 {K : KT} {M : MT} {τ : MS} (n : Nat) (C : Kok K cX10_dawn 2 RX10) (B : MB K M) (hr : (kMe K).sig.returnType = none) (dK : kR K = rmD 3) (hQ : KQm K M none τ) : ∀ (m : Nat) (x1 : Int32) (σ : MS) (hf : f_dawn_2 n m x1 σ = some τ), XJ K 2 (Wm K M σ) 2 [(0, .ref (mO M)), (1, .int x1)] [] := by
  intro m
  induction m with
  | zero => intro x1 σ hf; cases hf
  | succ m ih =>
    intro x1 σ hf
    rw [f_dawn_2] at hf
    refine x_iload_n C dX10_dawn_2 1 rfl ?_
    refine x_aload_n C dX10_dawn_3 0 rfl ?_
    refine mg_14 C B dX10_dawn_4 ?_
    refine x_iconst (3 : Int32) C dX10_dawn_7 (by decide) ?_
    refine mlc_14 3 C B (by decide +kernel) dX10_dawn_8 ?_
    refine x_icmp_ge (tgt := 92) C dX10_dawn_9 (by decide) (fun c1 => ?_) (fun c1 => ?_)
    · have hf := pf_t c1 hf
      obtain rfl := Option.some.inj hf
      exact m_vret C hr hQ dX10_dawn_92
    · have hf := pf_f c1 hf
      refine x_aload_n C dX10_dawn_12 0 rfl ?_
      refine x_iload_n C dX10_dawn_13 1 rfl ?_
      refine mc_isEvicted C B dK (Nat.le_of_ble_eq_true rfl) rfl (Nat.le_of_ble_eq_true rfl) dX10_dawn_14 ?_
      refine x_if_ne (tgt := 86) C dX10_dawn_17 (by decide) (fun c2 => ?_) (fun c2 => ?_)
      · have hf := pf_f c2 hf
        refine x_inc (c := (1 : Int32)) (L' := [(0, .ref (mO M)), (1, .int (x1 + (1 : Int32)))]) C dX10_dawn_86 1 rfl (by decide) (Nat.le_of_ble_eq_true rfl) [1, 0] rfl ?_
        refine x_goto (tgt := 2) C dX10_dawn_89 (by decide) ?_
        exact ih (x1 + (1 : Int32)) _ hf
      · have hf := pf_t c2 hf
        refine x_aload_n C dX10_dawn_20 0 rfl ?_
        refine mg_14 C B dX10_dawn_21 ?_
        refine x_sipush (226 : Int32) C dX10_dawn_24 (by decide) ?_
        refine x_iload_n C dX10_dawn_27 1 rfl ?_
        refine x_iadd C dX10_dawn_28 ?_
        obtain ⟨h3, hf⟩ := pf_in hf
        refine ml_14 C B h3 dX10_dawn_29 ?_
        refine x_aload_n C dX10_dawn_30 0 rfl ?_
        refine mg_14 C B dX10_dawn_31 ?_
        refine x_iconst (5 : Int32) C dX10_dawn_34 (by decide) ?_
        refine mlc_14 5 C B (by decide +kernel) dX10_dawn_35 ?_
        refine x_aload_n C dX10_dawn_36 0 rfl ?_
        refine mg_14 C B dX10_dawn_37 ?_
        refine x_bipush (6 : Int32) C dX10_dawn_40 (by decide) ?_
        refine x_aload_n C dX10_dawn_42 0 rfl ?_
        refine mg_14 C B dX10_dawn_43 ?_
        refine x_sipush (210 : Int32) C dX10_dawn_46 (by decide) ?_
        refine x_iload_n C dX10_dawn_49 1 rfl ?_
        refine x_iadd C dX10_dawn_50 ?_
        obtain ⟨h4, hf⟩ := pf_in hf
        refine ml_14 C B h4 dX10_dawn_51 ?_
        refine x_iadd C dX10_dawn_52 ?_
        obtain ⟨h5, hf⟩ := pf_in hf
        refine ml_14 C B h5 dX10_dawn_53 ?_
        refine x_imul C dX10_dawn_54 ?_
        refine x_icmp_gt (tgt := 61) C dX10_dawn_55 (by decide) (fun c6 => ?_) (fun c6 => ?_)
        · have hf := pf_t c6 hf
          refine x_aload_n C dX10_dawn_61 0 rfl ?_
          refine mg_14 C B dX10_dawn_62 ?_
          refine x_sipush (201 : Int32) C dX10_dawn_65 (by decide) ?_
          refine x_dup2_11 C dX10_dawn_68 rfl rfl ?_
          refine mlc_14 201 C B (by decide +kernel) dX10_dawn_69 ?_
          refine x_iconst (1 : Int32) C dX10_dawn_70 (by decide) ?_
          refine x_iload_n C dX10_dawn_71 1 rfl ?_
          refine x_ishl C dX10_dawn_72 ?_
          refine x_ior C dX10_dawn_73 ?_
          refine msc_14 201 C B (by decide +kernel) dX10_dawn_74 ?_
          obtain ⟨s7, es7, hf⟩ := pf_e hf
          refine m_ren es7 ?_
          refine x_aload_n C dX10_dawn_75 0 rfl ?_
          refine mg_14 C B dX10_dawn_76 ?_
          refine x_sipush (210 : Int32) C dX10_dawn_79 (by decide) ?_
          refine x_iload_n C dX10_dawn_82 1 rfl ?_
          refine x_iadd C dX10_dawn_83 ?_
          refine x_iconst (-1 : Int32) C dX10_dawn_84 (by decide) ?_
          obtain ⟨h8, hf⟩ := pf_in hf
          refine ms_14 C B h8 dX10_dawn_85 ?_
          obtain ⟨s9, es9, hf⟩ := pf_e hf
          refine m_ren es9 ?_
          refine x_inc (c := (1 : Int32)) (L' := [(0, .ref (mO M)), (1, .int (x1 + (1 : Int32)))]) C dX10_dawn_86 1 rfl (by decide) (Nat.le_of_ble_eq_true rfl) [1, 0] rfl ?_
          refine x_goto (tgt := 2) C dX10_dawn_89 (by decide) ?_
          exact ih (x1 + (1 : Int32)) _ hf
        · have hf := pf_f c6 hf
          refine x_goto (tgt := 86) C dX10_dawn_58 (by decide) ?_
          refine x_inc (c := (1 : Int32)) (L' := [(0, .ref (mO M)), (1, .int (x1 + (1 : Int32)))]) C dX10_dawn_86 1 rfl (by decide) (Nat.le_of_ble_eq_true rfl) [1, 0] rfl ?_
          refine x_goto (tgt := 2) C dX10_dawn_89 (by decide) ?_
          exact ih (x1 + (1 : Int32)) _ hf
def f_dawn (n : Nat) (σ : MS) : Option MS := f_dawn_2 n n (0 : Int32) σ
set_option maxHeartbeats 4000000 in
theorem w_dawn_E {K : KT} {M : MT} {τ : MS} (n : Nat) (C : Kok K cX10_dawn 2 RX10) (B : MB K M) (hr : (kMe K).sig.returnType = none) (dK : kR K = rmD 3) (hQ : KQm K M none τ) (σ : MS) (hf : f_dawn n σ = some τ) : XJ K 2 (Wm K M σ) 0 [(0, .ref (mO M))] [] := by
  unfold f_dawn at hf
  refine x_iconst (0 : Int32) C dX10_dawn_0 (by decide) ?_
  refine x_istore_n (L' := [(0, .ref (mO M)), (1, .int (0 : Int32))]) C dX10_dawn_1 (Nat.le_of_ble_eq_true rfl) [1, 0] rfl ?_
  exact w_dawn_2 n C B hr dK hQ n (0 : Int32) _ hf
theorem met_dawn {M : MT} {v : MS} {n : Nat} {σ : MS} {l : Launch} (hc : (mCl M)[mCi M]? = some (RX10, TX10, 61)) (hf : f_dawn n σ = some v) : Met l yX10_dawn (ws_ yX10_dawn cX10_dawn 2 none) (rmD 3) (va_Pc [.ref (mO M)] (MU M σ)) (Qm M none v) 0 0 (mAd M) :=
  m_met [.ref (mO M)] (by decide) rfl (Nat.le_of_ble_eq_true rfl) hc (fun K hl hR hr C B hQ => w_dawn_E _ C B hr hR hQ _ hf)
theorem mc_dawn {K : KT} {M : MT} {cc : ByteArray} {nL pc dk : Nat} {L : List (Nat × Value)} {rest : List Value} {σ : MS} {v : MS} {n : Nat} (C : Kok K cc nL RX10) (B : MB K M) (dK : kR K = rmD dk) (hd : 3 + 1 ≤ dk) (hf : f_dawn n σ = some v) (hW : (rest.map fun v => v.category).sum ≤ 8) (dd : decode cc pc = .ok (.invokevirtual 342, 3)) (kk2 : XJ K nL (Wm K M v) (pc + 3) L (rest)) : XJ K nL (Wm K M σ) pc L (.ref (mO M) :: rest) :=
  m_callV (rest := rest) (v := none) [] 0 rfl C B dK hd (Nat.le_of_ble_eq_true rfl) (lw_V q2239 q2241 qs85 q133 q2242) (by decide +kernel) (met_dawn B.2 hf) rfl hW dd kk2
def f_evening_152 (n : Nat) (k140 : Int32 → MS → Option MS) : Nat → Int32 → Int32 → MS → Option MS
  | 0, _, _, _ => none
  | m + 1, x1, x2, σ => if (ga σ 14 2) ≤ x2 then (k140 (x1 + (1 : Int32)) σ) else (ev (((250 : Int32) + ((5 : Int32) * x1)) + x2) fun v2 => if inb x1 8 = true then if (f_has (ga σ 29 (Int32.toNatClampNeg x1)) x2) = 0 then (if inb v2 532 = true then if (ga σ 14 (Int32.toNatClampNeg v2)) ≤ 0 then (f_evening_152 n k140 m x1 (x2 + (1 : Int32)) σ) else (if inb v2 532 = true then if inb v2 532 = true then ev (sa σ 14 (Int32.toNatClampNeg v2) ((ga σ 14 (Int32.toNatClampNeg v2)) - (1 : Int32))) fun s9 => f_evening_152 n k140 m x1 (x2 + (1 : Int32)) s9 else none else none) else none) else (if inb v2 532 = true then if inb v2 532 = true then ev (sa σ 14 (Int32.toNatClampNeg v2) (f_least (3 : Int32) ((ga σ 14 (Int32.toNatClampNeg v2)) + (1 : Int32)))) fun s12 => f_evening_152 n k140 m x1 (x2 + (1 : Int32)) s12 else none else none) else none)
set_option maxHeartbeats 4000000 in
theorem w_evening_152 {K : KT} {M : MT} {τ : MS} (n : Nat) (k140 : Int32 → MS → Option MS) (C : Kok K cX10_evening 4 RX10) (B : MB K M) (hr : (kMe K).sig.returnType = none) (dK : kR K = rmD 3) (hQ : KQm K M none τ)  (hk140 : ∀ (x1 : Int32) (σ : MS), k140 x1 σ = some τ → XJ K 4 (Wm K M σ) 140 [(0, .ref (mO M)), (1, .int x1)] []) : ∀ (m : Nat) (x1 : Int32) (x2 : Int32) (σ : MS) (hf : f_evening_152 n k140 m x1 x2 σ = some τ), XJ K 4 (Wm K M σ) 152 [(0, .ref (mO M)), (1, .int x1), (2, .int x2)] [] := by
  intro m
  induction m with
  | zero => intro x1 x2 σ hf; cases hf
  | succ m ih =>
    intro x1 x2 σ hf
    rw [f_evening_152] at hf
    refine x_iload_n C dX10_evening_152 2 rfl ?_
    refine x_aload_n C dX10_evening_153 0 rfl ?_
    refine mg_14 C B dX10_evening_154 ?_
    refine x_iconst (2 : Int32) C dX10_evening_157 (by decide) ?_
    refine mlc_14 2 C B (by decide +kernel) dX10_evening_158 ?_
    refine x_icmp_ge (tgt := 231) C dX10_evening_159 (by decide) (fun c1 => ?_) (fun c1 => ?_)
    · have hf := pf_t c1 hf
      refine x_inc (c := (1 : Int32)) (L' := [(0, .ref (mO M)), (1, .int (x1 + (1 : Int32)))]) C dX10_evening_231 1 rfl (by decide) (Nat.le_of_ble_eq_true rfl) [1, 0] rfl ?_
      refine x_goto (tgt := 140) C dX10_evening_234 (by decide) ?_
      exact hk140 (x1 + (1 : Int32)) _ hf
    · have hf := pf_f c1 hf
      refine x_sipush (250 : Int32) C dX10_evening_162 (by decide) ?_
      refine x_iconst (5 : Int32) C dX10_evening_165 (by decide) ?_
      refine x_iload_n C dX10_evening_166 1 rfl ?_
      refine x_imul C dX10_evening_167 ?_
      refine x_iadd C dX10_evening_168 ?_
      refine x_iload_n C dX10_evening_169 2 rfl ?_
      refine x_iadd C dX10_evening_170 ?_
      obtain ⟨v2, ev2, hf⟩ := pf_e hf
      refine x_topir ev2 ?_
      refine x_istore_n (L' := [(0, .ref (mO M)), (1, .int x1), (2, .int x2), (3, .int v2)]) C dX10_evening_171 (Nat.le_of_ble_eq_true rfl) [1, 2, 3, 0] rfl ?_
      refine x_aload_n C dX10_evening_172 0 rfl ?_
      refine mg_29 C B dX10_evening_173 ?_
      refine x_iload_n C dX10_evening_176 1 rfl ?_
      obtain ⟨h3, hf⟩ := pf_in hf
      refine ml_29 C B h3 dX10_evening_177 ?_
      refine x_iload_n C dX10_evening_178 2 rfl ?_
      refine mc_has C B dK (Nat.le_of_ble_eq_true rfl) rfl (Nat.le_of_ble_eq_true rfl) dX10_evening_179 ?_
      refine x_if_eq (tgt := 206) C dX10_evening_182 (by decide) (fun c4 => ?_) (fun c4 => ?_)
      · have hf := pf_t c4 hf
        refine x_aload_n C dX10_evening_206 0 rfl ?_
        refine mg_14 C B dX10_evening_207 ?_
        refine x_iload_n C dX10_evening_210 3 rfl ?_
        obtain ⟨h5, hf⟩ := pf_in hf
        refine ml_14 C B h5 dX10_evening_211 ?_
        refine x_if_le (tgt := 225) C dX10_evening_212 (by decide) (fun c6 => ?_) (fun c6 => ?_)
        · have hf := pf_t c6 hf
          refine x_inc (c := (1 : Int32)) (L' := [(0, .ref (mO M)), (1, .int x1), (2, .int (x2 + (1 : Int32)))]) C dX10_evening_225 2 rfl (by decide) (Nat.le_of_ble_eq_true rfl) [1, 2, 0] rfl ?_
          refine x_goto (tgt := 152) C dX10_evening_228 (by decide) ?_
          exact ih x1 (x2 + (1 : Int32)) _ hf
        · have hf := pf_f c6 hf
          refine x_aload_n C dX10_evening_215 0 rfl ?_
          refine mg_14 C B dX10_evening_216 ?_
          refine x_iload_n C dX10_evening_219 3 rfl ?_
          refine x_dup2_11 C dX10_evening_220 rfl rfl ?_
          obtain ⟨h7, hf⟩ := pf_in hf
          refine ml_14 C B h7 dX10_evening_221 ?_
          refine x_iconst (1 : Int32) C dX10_evening_222 (by decide) ?_
          refine x_isub C dX10_evening_223 ?_
          obtain ⟨h8, hf⟩ := pf_in hf
          refine ms_14 C B h8 dX10_evening_224 ?_
          obtain ⟨s9, es9, hf⟩ := pf_e hf
          refine m_ren es9 ?_
          refine x_inc (c := (1 : Int32)) (L' := [(0, .ref (mO M)), (1, .int x1), (2, .int (x2 + (1 : Int32)))]) C dX10_evening_225 2 rfl (by decide) (Nat.le_of_ble_eq_true rfl) [1, 2, 0] rfl ?_
          refine x_goto (tgt := 152) C dX10_evening_228 (by decide) ?_
          exact ih x1 (x2 + (1 : Int32)) _ hf
      · have hf := pf_f c4 hf
        refine x_aload_n C dX10_evening_185 0 rfl ?_
        refine mg_14 C B dX10_evening_186 ?_
        refine x_iload_n C dX10_evening_189 3 rfl ?_
        refine x_iconst (3 : Int32) C dX10_evening_190 (by decide) ?_
        refine x_aload_n C dX10_evening_191 0 rfl ?_
        refine mg_14 C B dX10_evening_192 ?_
        refine x_iload_n C dX10_evening_195 3 rfl ?_
        obtain ⟨h10, hf⟩ := pf_in hf
        refine ml_14 C B h10 dX10_evening_196 ?_
        refine x_iconst (1 : Int32) C dX10_evening_197 (by decide) ?_
        refine x_iadd C dX10_evening_198 ?_
        refine mc_least C B dK (Nat.le_of_ble_eq_true rfl) rfl (Nat.le_of_ble_eq_true rfl) dX10_evening_199 ?_
        obtain ⟨h11, hf⟩ := pf_in hf
        refine ms_14 C B h11 dX10_evening_202 ?_
        obtain ⟨s12, es12, hf⟩ := pf_e hf
        refine m_ren es12 ?_
        refine x_goto (tgt := 225) C dX10_evening_203 (by decide) ?_
        refine x_inc (c := (1 : Int32)) (L' := [(0, .ref (mO M)), (1, .int x1), (2, .int (x2 + (1 : Int32)))]) C dX10_evening_225 2 rfl (by decide) (Nat.le_of_ble_eq_true rfl) [1, 2, 0] rfl ?_
        refine x_goto (tgt := 152) C dX10_evening_228 (by decide) ?_
        exact ih x1 (x2 + (1 : Int32)) _ hf
def f_evening_140 (n : Nat) : Nat → Int32 → MS → Option MS
  | 0, _, _ => none
  | m + 1, x1, σ => if (ga σ 14 4) ≤ x1 then (some σ) else (f_evening_152 n (f_evening_140 n m) n x1 (0 : Int32) σ)
set_option maxHeartbeats 4000000 in
theorem w_evening_140 {K : KT} {M : MT} {τ : MS} (n : Nat) (C : Kok K cX10_evening 4 RX10) (B : MB K M) (hr : (kMe K).sig.returnType = none) (dK : kR K = rmD 3) (hQ : KQm K M none τ) : ∀ (m : Nat) (x1 : Int32) (σ : MS) (hf : f_evening_140 n m x1 σ = some τ), XJ K 4 (Wm K M σ) 140 [(0, .ref (mO M)), (1, .int x1)] [] := by
  intro m
  induction m with
  | zero => intro x1 σ hf; cases hf
  | succ m ih =>
    intro x1 σ hf
    rw [f_evening_140] at hf
    refine x_iload_n C dX10_evening_140 1 rfl ?_
    refine x_aload_n C dX10_evening_141 0 rfl ?_
    refine mg_14 C B dX10_evening_142 ?_
    refine x_iconst (4 : Int32) C dX10_evening_145 (by decide) ?_
    refine mlc_14 4 C B (by decide +kernel) dX10_evening_146 ?_
    refine x_icmp_ge (tgt := 237) C dX10_evening_147 (by decide) (fun c1 => ?_) (fun c1 => ?_)
    · have hf := pf_t c1 hf
      obtain rfl := Option.some.inj hf
      exact m_vret C hr hQ dX10_evening_237
    · have hf := pf_f c1 hf
      refine x_iconst (0 : Int32) C dX10_evening_150 (by decide) ?_
      refine x_istore_n (L' := [(0, .ref (mO M)), (1, .int x1), (2, .int (0 : Int32))]) C dX10_evening_151 (Nat.le_of_ble_eq_true rfl) [1, 2, 0] rfl ?_
      exact w_evening_152 n _ C B hr dK hQ ih n x1 (0 : Int32) _ hf
def f_evening_2 (n : Nat) : Nat → Int32 → MS → Option MS
  | 0, _, _ => none
  | m + 1, x1, σ => if (ga σ 14 3) ≤ x1 then (f_evening_140 n n (0 : Int32) σ) else (if (f_isEvicted σ x1) = 0 then (if inb ((226 : Int32) + x1) 532 = true then if inb ((210 : Int32) + x1) 532 = true then if inb ((6 : Int32) + (ga σ 14 (Int32.toNatClampNeg ((210 : Int32) + x1)))) 532 = true then ev ((ga σ 14 (Int32.toNatClampNeg ((226 : Int32) + x1))) + (ga σ 14 (Int32.toNatClampNeg ((6 : Int32) + (ga σ 14 (Int32.toNatClampNeg ((210 : Int32) + x1))))))) fun v6 => if inb ((218 : Int32) + x1) 532 = true then ev (f_least v6 (ga σ 14 (Int32.toNatClampNeg ((218 : Int32) + x1)))) fun v8 => if inb ((226 : Int32) + x1) 532 = true then ev (sa σ 14 (Int32.toNatClampNeg ((226 : Int32) + x1)) (v6 - v8)) fun s10 => if inb ((218 : Int32) + x1) 532 = true then if inb ((218 : Int32) + x1) 532 = true then ev (sa s10 14 (Int32.toNatClampNeg ((218 : Int32) + x1)) ((ga s10 14 (Int32.toNatClampNeg ((218 : Int32) + x1))) - v8)) fun s13 => ev (sa s13 14 199 ((ga s13 14 199) + v8)) fun s14 => if (f_has (gi s14 28) x1) = 0 then (ev (sa s14 14 200 ((ga s14 14 200) ||| ((1 : Int32) <<< (x1 &&& 31)))) fun s16 => f_evening_2 n m (x1 + (1 : Int32)) s16) else (f_evening_2 n m (x1 + (1 : Int32)) s14) else none else none else none else none else none else none else none) else (f_evening_2 n m (x1 + (1 : Int32)) σ))
set_option maxHeartbeats 4000000 in
theorem w_evening_2 {K : KT} {M : MT} {τ : MS} (n : Nat) (C : Kok K cX10_evening 4 RX10) (B : MB K M) (hr : (kMe K).sig.returnType = none) (dK : kR K = rmD 3) (hQ : KQm K M none τ) : ∀ (m : Nat) (x1 : Int32) (σ : MS) (hf : f_evening_2 n m x1 σ = some τ), XJ K 4 (Wm K M σ) 2 [(0, .ref (mO M)), (1, .int x1)] [] := by
  intro m
  induction m with
  | zero => intro x1 σ hf; cases hf
  | succ m ih =>
    intro x1 σ hf
    rw [f_evening_2] at hf
    refine x_iload_n C dX10_evening_2 1 rfl ?_
    refine x_aload_n C dX10_evening_3 0 rfl ?_
    refine mg_14 C B dX10_evening_4 ?_
    refine x_iconst (3 : Int32) C dX10_evening_7 (by decide) ?_
    refine mlc_14 3 C B (by decide +kernel) dX10_evening_8 ?_
    refine x_icmp_ge (tgt := 138) C dX10_evening_9 (by decide) (fun c1 => ?_) (fun c1 => ?_)
    · have hf := pf_t c1 hf
      refine x_iconst (0 : Int32) C dX10_evening_138 (by decide) ?_
      refine x_istore_n (L' := [(0, .ref (mO M)), (1, .int (0 : Int32))]) C dX10_evening_139 (Nat.le_of_ble_eq_true rfl) [1, 0] rfl ?_
      exact w_evening_140 n C B hr dK hQ n (0 : Int32) _ hf
    · have hf := pf_f c1 hf
      refine x_aload_n C dX10_evening_12 0 rfl ?_
      refine x_iload_n C dX10_evening_13 1 rfl ?_
      refine mc_isEvicted C B dK (Nat.le_of_ble_eq_true rfl) rfl (Nat.le_of_ble_eq_true rfl) dX10_evening_14 ?_
      refine x_if_eq (tgt := 23) C dX10_evening_17 (by decide) (fun c2 => ?_) (fun c2 => ?_)
      · have hf := pf_t c2 hf
        refine x_aload_n C dX10_evening_23 0 rfl ?_
        refine mg_14 C B dX10_evening_24 ?_
        refine x_sipush (226 : Int32) C dX10_evening_27 (by decide) ?_
        refine x_iload_n C dX10_evening_30 1 rfl ?_
        refine x_iadd C dX10_evening_31 ?_
        obtain ⟨h3, hf⟩ := pf_in hf
        refine ml_14 C B h3 dX10_evening_32 ?_
        refine x_aload_n C dX10_evening_33 0 rfl ?_
        refine mg_14 C B dX10_evening_34 ?_
        refine x_bipush (6 : Int32) C dX10_evening_37 (by decide) ?_
        refine x_aload_n C dX10_evening_39 0 rfl ?_
        refine mg_14 C B dX10_evening_40 ?_
        refine x_sipush (210 : Int32) C dX10_evening_43 (by decide) ?_
        refine x_iload_n C dX10_evening_46 1 rfl ?_
        refine x_iadd C dX10_evening_47 ?_
        obtain ⟨h4, hf⟩ := pf_in hf
        refine ml_14 C B h4 dX10_evening_48 ?_
        refine x_iadd C dX10_evening_49 ?_
        obtain ⟨h5, hf⟩ := pf_in hf
        refine ml_14 C B h5 dX10_evening_50 ?_
        refine x_iadd C dX10_evening_51 ?_
        obtain ⟨v6, ev6, hf⟩ := pf_e hf
        refine x_topir ev6 ?_
        refine x_istore_n (L' := [(0, .ref (mO M)), (1, .int x1), (2, .int v6)]) C dX10_evening_52 (Nat.le_of_ble_eq_true rfl) [1, 2, 0] rfl ?_
        refine x_iload_n C dX10_evening_53 2 rfl ?_
        refine x_aload_n C dX10_evening_54 0 rfl ?_
        refine mg_14 C B dX10_evening_55 ?_
        refine x_sipush (218 : Int32) C dX10_evening_58 (by decide) ?_
        refine x_iload_n C dX10_evening_61 1 rfl ?_
        refine x_iadd C dX10_evening_62 ?_
        obtain ⟨h7, hf⟩ := pf_in hf
        refine ml_14 C B h7 dX10_evening_63 ?_
        refine mc_least C B dK (Nat.le_of_ble_eq_true rfl) rfl (Nat.le_of_ble_eq_true rfl) dX10_evening_64 ?_
        obtain ⟨v8, ev8, hf⟩ := pf_e hf
        refine x_topir ev8 ?_
        refine x_istore_n (L' := [(0, .ref (mO M)), (1, .int x1), (2, .int v6), (3, .int v8)]) C dX10_evening_67 (Nat.le_of_ble_eq_true rfl) [1, 2, 3, 0] rfl ?_
        refine x_aload_n C dX10_evening_68 0 rfl ?_
        refine mg_14 C B dX10_evening_69 ?_
        refine x_sipush (226 : Int32) C dX10_evening_72 (by decide) ?_
        refine x_iload_n C dX10_evening_75 1 rfl ?_
        refine x_iadd C dX10_evening_76 ?_
        refine x_iload_n C dX10_evening_77 2 rfl ?_
        refine x_iload_n C dX10_evening_78 3 rfl ?_
        refine x_isub C dX10_evening_79 ?_
        obtain ⟨h9, hf⟩ := pf_in hf
        refine ms_14 C B h9 dX10_evening_80 ?_
        obtain ⟨s10, es10, hf⟩ := pf_e hf
        refine m_ren es10 ?_
        refine x_aload_n C dX10_evening_81 0 rfl ?_
        refine mg_14 C B dX10_evening_82 ?_
        refine x_sipush (218 : Int32) C dX10_evening_85 (by decide) ?_
        refine x_iload_n C dX10_evening_88 1 rfl ?_
        refine x_iadd C dX10_evening_89 ?_
        refine x_dup2_11 C dX10_evening_90 rfl rfl ?_
        obtain ⟨h11, hf⟩ := pf_in hf
        refine ml_14 C B h11 dX10_evening_91 ?_
        refine x_iload_n C dX10_evening_92 3 rfl ?_
        refine x_isub C dX10_evening_93 ?_
        obtain ⟨h12, hf⟩ := pf_in hf
        refine ms_14 C B h12 dX10_evening_94 ?_
        obtain ⟨s13, es13, hf⟩ := pf_e hf
        refine m_ren es13 ?_
        refine x_aload_n C dX10_evening_95 0 rfl ?_
        refine mg_14 C B dX10_evening_96 ?_
        refine x_sipush (199 : Int32) C dX10_evening_99 (by decide) ?_
        refine x_dup2_11 C dX10_evening_102 rfl rfl ?_
        refine mlc_14 199 C B (by decide +kernel) dX10_evening_103 ?_
        refine x_iload_n C dX10_evening_104 3 rfl ?_
        refine x_iadd C dX10_evening_105 ?_
        refine msc_14 199 C B (by decide +kernel) dX10_evening_106 ?_
        obtain ⟨s14, es14, hf⟩ := pf_e hf
        refine m_ren es14 ?_
        refine x_aload_n C dX10_evening_107 0 rfl ?_
        refine mg_28 C B dX10_evening_108 ?_
        refine x_iload_n C dX10_evening_111 1 rfl ?_
        refine mc_has C B dK (Nat.le_of_ble_eq_true rfl) rfl (Nat.le_of_ble_eq_true rfl) dX10_evening_112 ?_
        refine x_if_ne (tgt := 132) C dX10_evening_115 (by decide) (fun c15 => ?_) (fun c15 => ?_)
        · have hf := pf_f c15 hf
          refine x_inc (c := (1 : Int32)) (L' := [(0, .ref (mO M)), (1, .int (x1 + (1 : Int32)))]) C dX10_evening_132 1 rfl (by decide) (Nat.le_of_ble_eq_true rfl) [1, 0] rfl ?_
          refine x_goto (tgt := 2) C dX10_evening_135 (by decide) ?_
          exact ih (x1 + (1 : Int32)) _ hf
        · have hf := pf_t c15 hf
          refine x_aload_n C dX10_evening_118 0 rfl ?_
          refine mg_14 C B dX10_evening_119 ?_
          refine x_sipush (200 : Int32) C dX10_evening_122 (by decide) ?_
          refine x_dup2_11 C dX10_evening_125 rfl rfl ?_
          refine mlc_14 200 C B (by decide +kernel) dX10_evening_126 ?_
          refine x_iconst (1 : Int32) C dX10_evening_127 (by decide) ?_
          refine x_iload_n C dX10_evening_128 1 rfl ?_
          refine x_ishl C dX10_evening_129 ?_
          refine x_ior C dX10_evening_130 ?_
          refine msc_14 200 C B (by decide +kernel) dX10_evening_131 ?_
          obtain ⟨s16, es16, hf⟩ := pf_e hf
          refine m_ren es16 ?_
          refine x_inc (c := (1 : Int32)) (L' := [(0, .ref (mO M)), (1, .int (x1 + (1 : Int32)))]) C dX10_evening_132 1 rfl (by decide) (Nat.le_of_ble_eq_true rfl) [1, 0] rfl ?_
          refine x_goto (tgt := 2) C dX10_evening_135 (by decide) ?_
          exact ih (x1 + (1 : Int32)) _ hf
      · have hf := pf_f c2 hf
        refine x_goto (tgt := 132) C dX10_evening_20 (by decide) ?_
        refine x_inc (c := (1 : Int32)) (L' := [(0, .ref (mO M)), (1, .int (x1 + (1 : Int32)))]) C dX10_evening_132 1 rfl (by decide) (Nat.le_of_ble_eq_true rfl) [1, 0] rfl ?_
        refine x_goto (tgt := 2) C dX10_evening_135 (by decide) ?_
        exact ih (x1 + (1 : Int32)) _ hf
def f_evening (n : Nat) (σ : MS) : Option MS := f_evening_2 n n (0 : Int32) σ
set_option maxHeartbeats 4000000 in
theorem w_evening_E {K : KT} {M : MT} {τ : MS} (n : Nat) (C : Kok K cX10_evening 4 RX10) (B : MB K M) (hr : (kMe K).sig.returnType = none) (dK : kR K = rmD 3) (hQ : KQm K M none τ) (σ : MS) (hf : f_evening n σ = some τ) : XJ K 4 (Wm K M σ) 0 [(0, .ref (mO M))] [] := by
  unfold f_evening at hf
  refine x_iconst (0 : Int32) C dX10_evening_0 (by decide) ?_
  refine x_istore_n (L' := [(0, .ref (mO M)), (1, .int (0 : Int32))]) C dX10_evening_1 (Nat.le_of_ble_eq_true rfl) [1, 0] rfl ?_
  exact w_evening_2 n C B hr dK hQ n (0 : Int32) _ hf
theorem met_evening {M : MT} {v : MS} {n : Nat} {σ : MS} {l : Launch} (hc : (mCl M)[mCi M]? = some (RX10, TX10, 61)) (hf : f_evening n σ = some v) : Met l yX10_evening (ws_ yX10_evening cX10_evening 4 none) (rmD 3) (va_Pc [.ref (mO M)] (MU M σ)) (Qm M none v) 0 0 (mAd M) :=
  m_met [.ref (mO M)] (by decide) rfl (Nat.le_of_ble_eq_true rfl) hc (fun K hl hR hr C B hQ => w_evening_E _ C B hr hR hQ _ hf)
theorem mc_evening {K : KT} {M : MT} {cc : ByteArray} {nL pc dk : Nat} {L : List (Nat × Value)} {rest : List Value} {σ : MS} {v : MS} {n : Nat} (C : Kok K cc nL RX10) (B : MB K M) (dK : kR K = rmD dk) (hd : 3 + 1 ≤ dk) (hf : f_evening n σ = some v) (hW : (rest.map fun v => v.category).sum ≤ 8) (dd : decode cc pc = .ok (.invokevirtual 348, 3)) (kk2 : XJ K nL (Wm K M v) (pc + 3) L (rest)) : XJ K nL (Wm K M σ) pc L (.ref (mO M) :: rest) :=
  m_callV (rest := rest) (v := none) [] 0 rfl C B dK hd (Nat.le_of_ble_eq_true rfl) (lw_V q2256 q2258 qs89 q133 q2259) (by decide +kernel) (met_evening B.2 hf) rfl hW dd kk2
def f_draw (x1 : Int32) (σ : MS) : Option (Int32 × MS) := ev (si σ 27 (((gi σ 27) * (1103515245 : Int32)) + (12345 : Int32))) fun s1 => if ¬ x1 = 0 then some ((j_ushr (gi s1 27) (8 : Int32)) - (j_ushr (gi s1 27) (8 : Int32)) / x1 * x1, s1) else none
set_option maxHeartbeats 4000000 in
theorem w_draw_E {K : KT} {M : MT} {r : Int32} {τ : MS} (C : Kok K cX10_draw 2 RX10) (B : MB K M) (hr : (kMe K).sig.returnType = some .int) (dK : kR K = rmD 1) (hQ : KQm K M (some (.int r)) τ) (x1 : Int32) (σ : MS) (hf : f_draw x1 σ = some (r, τ)) : XJ K 2 (Wm K M σ) 0 [(0, .ref (mO M)), (1, .int x1)] [] := by
  unfold f_draw at hf
  refine x_aload_n C dX10_draw_0 0 rfl ?_
  refine x_aload_n C dX10_draw_1 0 rfl ?_
  refine mg_27 C B dX10_draw_2 ?_
  refine x_ldcw C q2251 dX10_draw_5 ?_
  refine x_imul C dX10_draw_8 ?_
  refine x_sipush (12345 : Int32) C dX10_draw_9 (by decide) ?_
  refine x_iadd C dX10_draw_12 ?_
  refine mp_27 C B dX10_draw_13 ?_
  obtain ⟨s1, es1, hf⟩ := pf_e hf
  refine m_ren es1 ?_
  refine x_aload_n C dX10_draw_16 0 rfl ?_
  refine mg_27 C B dX10_draw_17 ?_
  refine x_bipush (8 : Int32) C dX10_draw_20 (by decide) ?_
  refine x_iushr C dX10_draw_22 ?_
  refine x_iload_n C dX10_draw_23 1 rfl ?_
  obtain ⟨h2, hf⟩ := pf_ch hf
  refine x_irem C h2 dX10_draw_24 ?_
  obtain ⟨rfl, rfl⟩ := Prod.mk.inj (Option.some.inj hf)
  exact m_iret C hr hQ dX10_draw_25
theorem met_draw {M : MT} {v : (Int32 × MS)} {σ : MS} {x1 : Int32} {l : Launch} (hc : (mCl M)[mCi M]? = some (RX10, TX10, 61)) (hf : f_draw x1 σ = some v) : Met l yX10_draw (ws_ yX10_draw cX10_draw 2 (some .int)) (rmD 1) (va_Pc [.ref (mO M), .int x1] (MU M σ)) (Qm M (some (.int v.1)) v.2) 0 0 (mAd M) :=
  m_met [.ref (mO M), .int x1] (by decide) rfl (Nat.le_of_ble_eq_true rfl) hc (fun K hl hR hr C B hQ => w_draw_E C B hr hR hQ _ _ hf)
theorem mc_draw {K : KT} {M : MT} {cc : ByteArray} {nL pc dk : Nat} {L : List (Nat × Value)} {rest : List Value} {σ : MS} {v : (Int32 × MS)} {x1 : Int32} (C : Kok K cc nL RX10) (B : MB K M) (dK : kR K = rmD dk) (hd : 1 + 1 ≤ dk) (hf : f_draw x1 σ = some v) (hW : (rest.map fun v => v.category).sum ≤ 8) (dd : decode cc pc = .ok (.invokevirtual 329, 3)) (kk2 : XJ K nL (Wm K M v.2) (pc + 3) L ((.int v.1) :: rest)) : XJ K nL (Wm K M σ) pc L (.int x1 :: .ref (mO M) :: rest) :=
  m_callV (rest := rest) (v := (some (.int v.1))) [.int x1] 1 rfl C B dK hd (Nat.le_of_ble_eq_true rfl) (lw_V q2247 q2249 qs87 q133 q2250) (by decide +kernel) (met_draw B.2 hf) rfl hW dd kk2
def f_worthOf (σ : MS) (x1 : Int32) (x2 : Int32) : Option Int32 := if x2 = 0 then (if inb ((78 : Int32) + x1) 532 = true then some (ga σ 14 (Int32.toNatClampNeg ((78 : Int32) + x1))) else none) else (if inb ((78 : Int32) + x1) 532 = true then some ((ga σ 14 (Int32.toNatClampNeg ((78 : Int32) + x1))) / (2 : Int32)) else none)
set_option maxHeartbeats 4000000 in
theorem w_worthOf_E {K : KT} {M : MT} {r : Int32} (σ : MS) (C : Kok K cX10_worthOf 3 RX10) (B : MB K M) (hr : (kMe K).sig.returnType = some .int) (dK : kR K = rmD 1) (hQ : KQm K M (some (.int r)) σ) (x1 : Int32) (x2 : Int32) (hf : f_worthOf σ x1 x2 = some r) : XJ K 3 (Wm K M σ) 0 [(0, .ref (mO M)), (1, .int x1), (2, .int x2)] [] := by
  unfold f_worthOf at hf
  refine x_iload_n C dX10_worthOf_0 2 rfl ?_
  refine x_if_eq (tgt := 18) C dX10_worthOf_1 (by decide) (fun c1 => ?_) (fun c1 => ?_)
  · have hf := pf_t c1 hf
    refine x_aload_n C dX10_worthOf_18 0 rfl ?_
    refine mg_14 C B dX10_worthOf_19 ?_
    refine x_bipush (78 : Int32) C dX10_worthOf_22 (by decide) ?_
    refine x_iload_n C dX10_worthOf_24 1 rfl ?_
    refine x_iadd C dX10_worthOf_25 ?_
    obtain ⟨h2, hf⟩ := pf_in hf
    refine ml_14 C B h2 dX10_worthOf_26 ?_
    obtain rfl := Option.some.inj hf
    exact m_iret C hr hQ dX10_worthOf_27
  · have hf := pf_f c1 hf
    refine x_aload_n C dX10_worthOf_4 0 rfl ?_
    refine mg_14 C B dX10_worthOf_5 ?_
    refine x_bipush (78 : Int32) C dX10_worthOf_8 (by decide) ?_
    refine x_iload_n C dX10_worthOf_10 1 rfl ?_
    refine x_iadd C dX10_worthOf_11 ?_
    obtain ⟨h3, hf⟩ := pf_in hf
    refine ml_14 C B h3 dX10_worthOf_12 ?_
    refine x_iconst (2 : Int32) C dX10_worthOf_13 (by decide) ?_
    refine x_idiv C (by decide) dX10_worthOf_14 ?_
    refine x_goto (tgt := 27) C dX10_worthOf_15 (by decide) ?_
    obtain rfl := Option.some.inj hf
    exact m_iret C hr hQ dX10_worthOf_27
theorem met_worthOf {M : MT} {v : Int32} {σ : MS} {x1 : Int32} {x2 : Int32} {l : Launch} (hc : (mCl M)[mCi M]? = some (RX10, TX10, 61)) (hf : f_worthOf σ x1 x2 = some v) : Met l yX10_worthOf (ws_ yX10_worthOf cX10_worthOf 3 (some .int)) (rmD 1) (va_Pc [.ref (mO M), .int x1, .int x2] (MU M σ)) (Qm M (some (.int v)) σ) 0 0 (mAd M) :=
  m_met [.ref (mO M), .int x1, .int x2] (by decide) rfl (Nat.le_of_ble_eq_true rfl) hc (fun K hl hR hr C B hQ => w_worthOf_E _ C B hr hR hQ _ _ hf)
theorem mc_worthOf {K : KT} {M : MT} {cc : ByteArray} {nL pc dk : Nat} {L : List (Nat × Value)} {rest : List Value} {σ : MS} {v : Int32} {x1 : Int32} {x2 : Int32} (C : Kok K cc nL RX10) (B : MB K M) (dK : kR K = rmD dk) (hd : 1 + 1 ≤ dk) (hf : f_worthOf σ x1 x2 = some v) (hW : (rest.map fun v => v.category).sum ≤ 8) (dd : decode cc pc = .ok (.invokevirtual 332, 3)) (kk2 : XJ K nL (Wm K M σ) (pc + 3) L ((.int v) :: rest)) : XJ K nL (Wm K M σ) pc L (.int x2 :: .int x1 :: .ref (mO M) :: rest) :=
  m_callV (rest := rest) (v := (some (.int v))) [.int x1, .int x2] 2 rfl C B dK hd (Nat.le_of_ble_eq_true rfl) (lw_V q2252 q2254 qs88 q133 q2255) (by decide +kernel) (met_worthOf B.2 hf) rfl hW dd kk2
def f_walk_2 (n : Nat) : Nat → Int32 → Int32 → MS → Option MS
  | 0, _, _, _ => none
  | m + 1, x1, x2, σ => if inb ((126 : Int32) + x1) 532 = true then if (ga σ 14 (Int32.toNatClampNeg ((126 : Int32) + x1))) ≤ x2 then (some σ) else (if inb (((134 : Int32) + ((8 : Int32) * x1)) + x2) 532 = true then (f_standsAt n σ (ga σ 14 (Int32.toNatClampNeg (((134 : Int32) + ((8 : Int32) * x1)) + x2)))).bind fun r4 => if r4 = (-1 : Int32) then (f_walk_2 n m x1 (x2 + (1 : Int32)) σ) else ((f_draw (12 : Int32) σ).bind fun r6 => if inb ((202 : Int32) + r4) 532 = true then (f_chance r6.2 x1 (ga r6.2 14 (Int32.toNatClampNeg ((202 : Int32) + r4)))).bind fun r8 => if r6.1 < r8 then (if inb ((218 : Int32) + r4) 532 = true then (f_worthOf r6.2 x1 (f_has (ga r6.2 14 200) r4)).bind fun r11 => if inb ((218 : Int32) + r4) 532 = true then ev (sa r6.2 14 (Int32.toNatClampNeg ((218 : Int32) + r4)) (f_least (999 : Int32) ((ga r6.2 14 (Int32.toNatClampNeg ((218 : Int32) + r4))) + r11))) fun s13 => if inb ((234 : Int32) + r4) 532 = true then if inb ((234 : Int32) + r4) 532 = true then ev (sa s13 14 (Int32.toNatClampNeg ((234 : Int32) + r4)) ((ga s13 14 (Int32.toNatClampNeg ((234 : Int32) + r4))) + (1 : Int32))) fun s16 => if inb ((242 : Int32) + x1) 532 = true then if inb ((242 : Int32) + x1) 532 = true then ev (sa s16 14 (Int32.toNatClampNeg ((242 : Int32) + x1)) ((ga s16 14 (Int32.toNatClampNeg ((242 : Int32) + x1))) + (1 : Int32))) fun s19 => ev (si s19 28 ((gi s19 28) ||| ((1 : Int32) <<< (r4 &&& 31)))) fun s20 => if inb x1 8 = true then if inb ((202 : Int32) + r4) 532 = true then if inb x1 8 = true then ev (sa s20 29 (Int32.toNatClampNeg x1) ((ga s20 29 (Int32.toNatClampNeg x1)) ||| ((1 : Int32) <<< ((ga s20 14 (Int32.toNatClampNeg ((202 : Int32) + r4))) &&& 31)))) fun s24 => f_walk_2 n m x1 (x2 + (1 : Int32)) s24 else none else none else none else none else none else none else none else none else none) else (f_walk_2 n m x1 (x2 + (1 : Int32)) r6.2) else none) else none) else none
set_option maxHeartbeats 4000000 in
theorem w_walk_2 {K : KT} {M : MT} {τ : MS} (n : Nat) (C : Kok K cX10_walk 4 RX10) (B : MB K M) (hr : (kMe K).sig.returnType = none) (dK : kR K = rmD 2) (hQ : KQm K M none τ) : ∀ (m : Nat) (x1 : Int32) (x2 : Int32) (σ : MS) (hf : f_walk_2 n m x1 x2 σ = some τ), XJ K 4 (Wm K M σ) 2 [(0, .ref (mO M)), (1, .int x1), (2, .int x2)] [] := by
  intro m
  induction m with
  | zero => intro x1 x2 σ hf; cases hf
  | succ m ih =>
    intro x1 x2 σ hf
    rw [f_walk_2] at hf
    refine x_iload_n C dX10_walk_2 2 rfl ?_
    refine x_aload_n C dX10_walk_3 0 rfl ?_
    refine mg_14 C B dX10_walk_4 ?_
    refine x_bipush (126 : Int32) C dX10_walk_7 (by decide) ?_
    refine x_iload_n C dX10_walk_9 1 rfl ?_
    refine x_iadd C dX10_walk_10 ?_
    obtain ⟨h1, hf⟩ := pf_in hf
    refine ml_14 C B h1 dX10_walk_11 ?_
    refine x_icmp_ge (tgt := 178) C dX10_walk_12 (by decide) (fun c2 => ?_) (fun c2 => ?_)
    · have hf := pf_t c2 hf
      obtain rfl := Option.some.inj hf
      exact m_vret C hr hQ dX10_walk_178
    · have hf := pf_f c2 hf
      refine x_aload_n C dX10_walk_15 0 rfl ?_
      refine x_aload_n C dX10_walk_16 0 rfl ?_
      refine mg_14 C B dX10_walk_17 ?_
      refine x_sipush (134 : Int32) C dX10_walk_20 (by decide) ?_
      refine x_bipush (8 : Int32) C dX10_walk_23 (by decide) ?_
      refine x_iload_n C dX10_walk_25 1 rfl ?_
      refine x_imul C dX10_walk_26 ?_
      refine x_iadd C dX10_walk_27 ?_
      refine x_iload_n C dX10_walk_28 2 rfl ?_
      refine x_iadd C dX10_walk_29 ?_
      obtain ⟨h3, hf⟩ := pf_in hf
      refine ml_14 C B h3 dX10_walk_30 ?_
      obtain ⟨r4, er4, hf⟩ := pf_b hf
      refine mc_standsAt C B dK (Nat.le_of_ble_eq_true rfl) er4 (Nat.le_of_ble_eq_true rfl) dX10_walk_31 ?_
      refine x_istore_n (L' := [(0, .ref (mO M)), (1, .int x1), (2, .int x2), (3, .int r4)]) C dX10_walk_34 (Nat.le_of_ble_eq_true rfl) [1, 2, 3, 0] rfl ?_
      refine x_iload_n C dX10_walk_35 3 rfl ?_
      refine x_iconst (-1 : Int32) C dX10_walk_36 (by decide) ?_
      refine x_icmp_eq (tgt := 172) C dX10_walk_37 (by decide) (fun c5 => ?_) (fun c5 => ?_)
      · have hf := pf_t c5 hf
        refine x_inc (c := (1 : Int32)) (L' := [(0, .ref (mO M)), (1, .int x1), (2, .int (x2 + (1 : Int32)))]) C dX10_walk_172 2 rfl (by decide) (Nat.le_of_ble_eq_true rfl) [1, 2, 0] rfl ?_
        refine x_goto (tgt := 2) C dX10_walk_175 (by decide) ?_
        exact ih x1 (x2 + (1 : Int32)) _ hf
      · have hf := pf_f c5 hf
        refine x_aload_n C dX10_walk_40 0 rfl ?_
        refine x_bipush (12 : Int32) C dX10_walk_41 (by decide) ?_
        obtain ⟨r6, er6, hf⟩ := pf_b hf
        refine mc_draw C B dK (Nat.le_of_ble_eq_true rfl) er6 (Nat.le_of_ble_eq_true rfl) dX10_walk_43 ?_
        refine x_aload_n C dX10_walk_46 0 rfl ?_
        refine x_iload_n C dX10_walk_47 1 rfl ?_
        refine x_aload_n C dX10_walk_48 0 rfl ?_
        refine mg_14 C B dX10_walk_49 ?_
        refine x_sipush (202 : Int32) C dX10_walk_52 (by decide) ?_
        refine x_iload_n C dX10_walk_55 3 rfl ?_
        refine x_iadd C dX10_walk_56 ?_
        obtain ⟨h7, hf⟩ := pf_in hf
        refine ml_14 C B h7 dX10_walk_57 ?_
        obtain ⟨r8, er8, hf⟩ := pf_b hf
        refine mc_chance C B dK (Nat.le_of_ble_eq_true rfl) er8 (Nat.le_of_ble_eq_true rfl) dX10_walk_58 ?_
        refine x_icmp_lt (tgt := 67) C dX10_walk_61 (by decide) (fun c9 => ?_) (fun c9 => ?_)
        · have hf := pf_t c9 hf
          refine x_aload_n C dX10_walk_67 0 rfl ?_
          refine mg_14 C B dX10_walk_68 ?_
          refine x_sipush (218 : Int32) C dX10_walk_71 (by decide) ?_
          refine x_iload_n C dX10_walk_74 3 rfl ?_
          refine x_iadd C dX10_walk_75 ?_
          refine x_sipush (999 : Int32) C dX10_walk_76 (by decide) ?_
          refine x_aload_n C dX10_walk_79 0 rfl ?_
          refine mg_14 C B dX10_walk_80 ?_
          refine x_sipush (218 : Int32) C dX10_walk_83 (by decide) ?_
          refine x_iload_n C dX10_walk_86 3 rfl ?_
          refine x_iadd C dX10_walk_87 ?_
          obtain ⟨h10, hf⟩ := pf_in hf
          refine ml_14 C B h10 dX10_walk_88 ?_
          refine x_aload_n C dX10_walk_89 0 rfl ?_
          refine x_iload_n C dX10_walk_90 1 rfl ?_
          refine x_aload_n C dX10_walk_91 0 rfl ?_
          refine mg_14 C B dX10_walk_92 ?_
          refine x_sipush (200 : Int32) C dX10_walk_95 (by decide) ?_
          refine mlc_14 200 C B (by decide +kernel) dX10_walk_98 ?_
          refine x_iload_n C dX10_walk_99 3 rfl ?_
          refine mc_has C B dK (Nat.le_of_ble_eq_true rfl) rfl (Nat.le_of_ble_eq_true rfl) dX10_walk_100 ?_
          obtain ⟨r11, er11, hf⟩ := pf_b hf
          refine mc_worthOf C B dK (Nat.le_of_ble_eq_true rfl) er11 (Nat.le_of_ble_eq_true rfl) dX10_walk_103 ?_
          refine x_iadd C dX10_walk_106 ?_
          refine mc_least C B dK (Nat.le_of_ble_eq_true rfl) rfl (Nat.le_of_ble_eq_true rfl) dX10_walk_107 ?_
          obtain ⟨h12, hf⟩ := pf_in hf
          refine ms_14 C B h12 dX10_walk_110 ?_
          obtain ⟨s13, es13, hf⟩ := pf_e hf
          refine m_ren es13 ?_
          refine x_aload_n C dX10_walk_111 0 rfl ?_
          refine mg_14 C B dX10_walk_112 ?_
          refine x_sipush (234 : Int32) C dX10_walk_115 (by decide) ?_
          refine x_iload_n C dX10_walk_118 3 rfl ?_
          refine x_iadd C dX10_walk_119 ?_
          refine x_dup2_11 C dX10_walk_120 rfl rfl ?_
          obtain ⟨h14, hf⟩ := pf_in hf
          refine ml_14 C B h14 dX10_walk_121 ?_
          refine x_iconst (1 : Int32) C dX10_walk_122 (by decide) ?_
          refine x_iadd C dX10_walk_123 ?_
          obtain ⟨h15, hf⟩ := pf_in hf
          refine ms_14 C B h15 dX10_walk_124 ?_
          obtain ⟨s16, es16, hf⟩ := pf_e hf
          refine m_ren es16 ?_
          refine x_aload_n C dX10_walk_125 0 rfl ?_
          refine mg_14 C B dX10_walk_126 ?_
          refine x_sipush (242 : Int32) C dX10_walk_129 (by decide) ?_
          refine x_iload_n C dX10_walk_132 1 rfl ?_
          refine x_iadd C dX10_walk_133 ?_
          refine x_dup2_11 C dX10_walk_134 rfl rfl ?_
          obtain ⟨h17, hf⟩ := pf_in hf
          refine ml_14 C B h17 dX10_walk_135 ?_
          refine x_iconst (1 : Int32) C dX10_walk_136 (by decide) ?_
          refine x_iadd C dX10_walk_137 ?_
          obtain ⟨h18, hf⟩ := pf_in hf
          refine ms_14 C B h18 dX10_walk_138 ?_
          obtain ⟨s19, es19, hf⟩ := pf_e hf
          refine m_ren es19 ?_
          refine x_aload_n C dX10_walk_139 0 rfl ?_
          refine x_dup C dX10_walk_140 rfl ?_
          refine mg_28 C B dX10_walk_141 ?_
          refine x_iconst (1 : Int32) C dX10_walk_144 (by decide) ?_
          refine x_iload_n C dX10_walk_145 3 rfl ?_
          refine x_ishl C dX10_walk_146 ?_
          refine x_ior C dX10_walk_147 ?_
          refine mp_28 C B dX10_walk_148 ?_
          obtain ⟨s20, es20, hf⟩ := pf_e hf
          refine m_ren es20 ?_
          refine x_aload_n C dX10_walk_151 0 rfl ?_
          refine mg_29 C B dX10_walk_152 ?_
          refine x_iload_n C dX10_walk_155 1 rfl ?_
          refine x_dup2_11 C dX10_walk_156 rfl rfl ?_
          obtain ⟨h21, hf⟩ := pf_in hf
          refine ml_29 C B h21 dX10_walk_157 ?_
          refine x_iconst (1 : Int32) C dX10_walk_158 (by decide) ?_
          refine x_aload_n C dX10_walk_159 0 rfl ?_
          refine mg_14 C B dX10_walk_160 ?_
          refine x_sipush (202 : Int32) C dX10_walk_163 (by decide) ?_
          refine x_iload_n C dX10_walk_166 3 rfl ?_
          refine x_iadd C dX10_walk_167 ?_
          obtain ⟨h22, hf⟩ := pf_in hf
          refine ml_14 C B h22 dX10_walk_168 ?_
          refine x_ishl C dX10_walk_169 ?_
          refine x_ior C dX10_walk_170 ?_
          obtain ⟨h23, hf⟩ := pf_in hf
          refine ms_29 C B h23 dX10_walk_171 ?_
          obtain ⟨s24, es24, hf⟩ := pf_e hf
          refine m_ren es24 ?_
          refine x_inc (c := (1 : Int32)) (L' := [(0, .ref (mO M)), (1, .int x1), (2, .int (x2 + (1 : Int32)))]) C dX10_walk_172 2 rfl (by decide) (Nat.le_of_ble_eq_true rfl) [1, 2, 0] rfl ?_
          refine x_goto (tgt := 2) C dX10_walk_175 (by decide) ?_
          exact ih x1 (x2 + (1 : Int32)) _ hf
        · have hf := pf_f c9 hf
          refine x_goto (tgt := 172) C dX10_walk_64 (by decide) ?_
          refine x_inc (c := (1 : Int32)) (L' := [(0, .ref (mO M)), (1, .int x1), (2, .int (x2 + (1 : Int32)))]) C dX10_walk_172 2 rfl (by decide) (Nat.le_of_ble_eq_true rfl) [1, 2, 0] rfl ?_
          refine x_goto (tgt := 2) C dX10_walk_175 (by decide) ?_
          exact ih x1 (x2 + (1 : Int32)) _ hf
def f_walk (n : Nat) (x1 : Int32) (σ : MS) : Option MS := f_walk_2 n n x1 (0 : Int32) σ
set_option maxHeartbeats 4000000 in
theorem w_walk_E {K : KT} {M : MT} {τ : MS} (n : Nat) (C : Kok K cX10_walk 4 RX10) (B : MB K M) (hr : (kMe K).sig.returnType = none) (dK : kR K = rmD 2) (hQ : KQm K M none τ) (x1 : Int32) (σ : MS) (hf : f_walk n x1 σ = some τ) : XJ K 4 (Wm K M σ) 0 [(0, .ref (mO M)), (1, .int x1)] [] := by
  unfold f_walk at hf
  refine x_iconst (0 : Int32) C dX10_walk_0 (by decide) ?_
  refine x_istore_n (L' := [(0, .ref (mO M)), (1, .int x1), (2, .int (0 : Int32))]) C dX10_walk_1 (Nat.le_of_ble_eq_true rfl) [1, 2, 0] rfl ?_
  exact w_walk_2 n C B hr dK hQ n x1 (0 : Int32) _ hf
theorem met_walk {M : MT} {v : MS} {n : Nat} {σ : MS} {x1 : Int32} {l : Launch} (hc : (mCl M)[mCi M]? = some (RX10, TX10, 61)) (hf : f_walk n x1 σ = some v) : Met l yX10_walk (ws_ yX10_walk cX10_walk 4 none) (rmD 2) (va_Pc [.ref (mO M), .int x1] (MU M σ)) (Qm M none v) 0 0 (mAd M) :=
  m_met [.ref (mO M), .int x1] (by decide) rfl (Nat.le_of_ble_eq_true rfl) hc (fun K hl hR hr C B hQ => w_walk_E _ C B hr hR hQ _ _ hf)
theorem mc_walk {K : KT} {M : MT} {cc : ByteArray} {nL pc dk : Nat} {L : List (Nat × Value)} {rest : List Value} {σ : MS} {v : MS} {n : Nat} {x1 : Int32} (C : Kok K cc nL RX10) (B : MB K M) (dK : kR K = rmD dk) (hd : 2 + 1 ≤ dk) (hf : f_walk n x1 σ = some v) (hW : (rest.map fun v => v.category).sum ≤ 8) (dd : decode cc pc = .ok (.invokevirtual 345, 3)) (kk2 : XJ K nL (Wm K M v) (pc + 3) L (rest)) : XJ K nL (Wm K M σ) pc L (.int x1 :: .ref (mO M) :: rest) :=
  m_callV (rest := rest) (v := none) [.int x1] 1 rfl C B dK hd (Nat.le_of_ble_eq_true rfl) (lw_V q2243 q2245 qs86 q133 q2246) (by decide +kernel) (met_walk B.2 hf) rfl hW dd kk2
def f_oneDay_11 (n : Nat) : Nat → Int32 → MS → Option MS
  | 0, _, _ => none
  | m + 1, x1, σ => if (ga σ 14 4) ≤ x1 then ((f_evening n σ).bind fun r2 => ev (sa r2 14 198 ((ga r2 14 198) + (1 : Int32))) fun s3 => some s3) else (if inb x1 8 = true then ev (sa σ 29 (Int32.toNatClampNeg x1) (0 : Int32)) fun s5 => if inb ((70 : Int32) + x1) 532 = true then if ¬ (ga s5 14 (Int32.toNatClampNeg ((70 : Int32) + x1))) = 0 then if ((ga s5 14 198) - (ga s5 14 198) / (ga s5 14 (Int32.toNatClampNeg ((70 : Int32) + x1))) * (ga s5 14 (Int32.toNatClampNeg ((70 : Int32) + x1)))) = 0 then ((f_walk n x1 s5).bind fun r9 => f_oneDay_11 n m (x1 + (1 : Int32)) r9) else (f_oneDay_11 n m (x1 + (1 : Int32)) s5) else none else none else none)
set_option maxHeartbeats 4000000 in
theorem w_oneDay_11 {K : KT} {M : MT} {τ : MS} (n : Nat) (C : Kok K cX10_oneDay 2 RX10) (B : MB K M) (hr : (kMe K).sig.returnType = none) (dK : kR K = rmD 4) (hQ : KQm K M none τ) : ∀ (m : Nat) (x1 : Int32) (σ : MS) (hf : f_oneDay_11 n m x1 σ = some τ), XJ K 2 (Wm K M σ) 11 [(0, .ref (mO M)), (1, .int x1)] [] := by
  intro m
  induction m with
  | zero => intro x1 σ hf; cases hf
  | succ m ih =>
    intro x1 σ hf
    rw [f_oneDay_11] at hf
    refine x_iload_n C dX10_oneDay_11 1 rfl ?_
    refine x_aload_n C dX10_oneDay_12 0 rfl ?_
    refine mg_14 C B dX10_oneDay_13 ?_
    refine x_iconst (4 : Int32) C dX10_oneDay_16 (by decide) ?_
    refine mlc_14 4 C B (by decide +kernel) dX10_oneDay_17 ?_
    refine x_icmp_ge (tgt := 60) C dX10_oneDay_18 (by decide) (fun c1 => ?_) (fun c1 => ?_)
    · have hf := pf_t c1 hf
      refine x_aload_n C dX10_oneDay_60 0 rfl ?_
      obtain ⟨r2, er2, hf⟩ := pf_b hf
      refine mc_evening C B dK (Nat.le_of_ble_eq_true rfl) er2 (Nat.le_of_ble_eq_true rfl) dX10_oneDay_61 ?_
      refine x_aload_n C dX10_oneDay_64 0 rfl ?_
      refine mg_14 C B dX10_oneDay_65 ?_
      refine x_sipush (198 : Int32) C dX10_oneDay_68 (by decide) ?_
      refine x_dup2_11 C dX10_oneDay_71 rfl rfl ?_
      refine mlc_14 198 C B (by decide +kernel) dX10_oneDay_72 ?_
      refine x_iconst (1 : Int32) C dX10_oneDay_73 (by decide) ?_
      refine x_iadd C dX10_oneDay_74 ?_
      refine msc_14 198 C B (by decide +kernel) dX10_oneDay_75 ?_
      obtain ⟨s3, es3, hf⟩ := pf_e hf
      refine m_ren es3 ?_
      obtain rfl := Option.some.inj hf
      exact m_vret C hr hQ dX10_oneDay_76
    · have hf := pf_f c1 hf
      refine x_aload_n C dX10_oneDay_21 0 rfl ?_
      refine mg_29 C B dX10_oneDay_22 ?_
      refine x_iload_n C dX10_oneDay_25 1 rfl ?_
      refine x_iconst (0 : Int32) C dX10_oneDay_26 (by decide) ?_
      obtain ⟨h4, hf⟩ := pf_in hf
      refine ms_29 C B h4 dX10_oneDay_27 ?_
      obtain ⟨s5, es5, hf⟩ := pf_e hf
      refine m_ren es5 ?_
      refine x_aload_n C dX10_oneDay_28 0 rfl ?_
      refine mg_14 C B dX10_oneDay_29 ?_
      refine x_sipush (198 : Int32) C dX10_oneDay_32 (by decide) ?_
      refine mlc_14 198 C B (by decide +kernel) dX10_oneDay_35 ?_
      refine x_aload_n C dX10_oneDay_36 0 rfl ?_
      refine mg_14 C B dX10_oneDay_37 ?_
      refine x_bipush (70 : Int32) C dX10_oneDay_40 (by decide) ?_
      refine x_iload_n C dX10_oneDay_42 1 rfl ?_
      refine x_iadd C dX10_oneDay_43 ?_
      obtain ⟨h6, hf⟩ := pf_in hf
      refine ml_14 C B h6 dX10_oneDay_44 ?_
      obtain ⟨h7, hf⟩ := pf_ch hf
      refine x_irem C h7 dX10_oneDay_45 ?_
      refine x_if_ne (tgt := 54) C dX10_oneDay_46 (by decide) (fun c8 => ?_) (fun c8 => ?_)
      · have hf := pf_f c8 hf
        refine x_inc (c := (1 : Int32)) (L' := [(0, .ref (mO M)), (1, .int (x1 + (1 : Int32)))]) C dX10_oneDay_54 1 rfl (by decide) (Nat.le_of_ble_eq_true rfl) [1, 0] rfl ?_
        refine x_goto (tgt := 11) C dX10_oneDay_57 (by decide) ?_
        exact ih (x1 + (1 : Int32)) _ hf
      · have hf := pf_t c8 hf
        refine x_aload_n C dX10_oneDay_49 0 rfl ?_
        refine x_iload_n C dX10_oneDay_50 1 rfl ?_
        obtain ⟨r9, er9, hf⟩ := pf_b hf
        refine mc_walk C B dK (Nat.le_of_ble_eq_true rfl) er9 (Nat.le_of_ble_eq_true rfl) dX10_oneDay_51 ?_
        refine x_inc (c := (1 : Int32)) (L' := [(0, .ref (mO M)), (1, .int (x1 + (1 : Int32)))]) C dX10_oneDay_54 1 rfl (by decide) (Nat.le_of_ble_eq_true rfl) [1, 0] rfl ?_
        refine x_goto (tgt := 11) C dX10_oneDay_57 (by decide) ?_
        exact ih (x1 + (1 : Int32)) _ hf
def f_oneDay (n : Nat) (σ : MS) : Option MS := (f_dawn n σ).bind fun r1 => ev (si r1 28 (0 : Int32)) fun s2 => f_oneDay_11 n n (0 : Int32) s2
set_option maxHeartbeats 4000000 in
theorem w_oneDay_E {K : KT} {M : MT} {τ : MS} (n : Nat) (C : Kok K cX10_oneDay 2 RX10) (B : MB K M) (hr : (kMe K).sig.returnType = none) (dK : kR K = rmD 4) (hQ : KQm K M none τ) (σ : MS) (hf : f_oneDay n σ = some τ) : XJ K 2 (Wm K M σ) 0 [(0, .ref (mO M))] [] := by
  unfold f_oneDay at hf
  refine x_aload_n C dX10_oneDay_0 0 rfl ?_
  obtain ⟨r1, er1, hf⟩ := pf_b hf
  refine mc_dawn C B dK (Nat.le_of_ble_eq_true rfl) er1 (Nat.le_of_ble_eq_true rfl) dX10_oneDay_1 ?_
  refine x_aload_n C dX10_oneDay_4 0 rfl ?_
  refine x_iconst (0 : Int32) C dX10_oneDay_5 (by decide) ?_
  refine mp_28 C B dX10_oneDay_6 ?_
  obtain ⟨s2, es2, hf⟩ := pf_e hf
  refine m_ren es2 ?_
  refine x_iconst (0 : Int32) C dX10_oneDay_9 (by decide) ?_
  refine x_istore_n (L' := [(0, .ref (mO M)), (1, .int (0 : Int32))]) C dX10_oneDay_10 (Nat.le_of_ble_eq_true rfl) [1, 0] rfl ?_
  exact w_oneDay_11 n C B hr dK hQ n (0 : Int32) _ hf
theorem met_oneDay {M : MT} {v : MS} {n : Nat} {σ : MS} {l : Launch} (hc : (mCl M)[mCi M]? = some (RX10, TX10, 61)) (hf : f_oneDay n σ = some v) : Met l yX10_oneDay (ws_ yX10_oneDay cX10_oneDay 2 none) (rmD 4) (va_Pc [.ref (mO M)] (MU M σ)) (Qm M none v) 0 0 (mAd M) :=
  m_met [.ref (mO M)] (by decide) rfl (Nat.le_of_ble_eq_true rfl) hc (fun K hl hR hr C B hQ => w_oneDay_E _ C B hr hR hQ _ hf)
theorem mc_oneDay {K : KT} {M : MT} {cc : ByteArray} {nL pc dk : Nat} {L : List (Nat × Value)} {rest : List Value} {σ : MS} {v : MS} {n : Nat} (C : Kok K cc nL RX10) (B : MB K M) (dK : kR K = rmD dk) (hd : 4 + 1 ≤ dk) (hf : f_oneDay n σ = some v) (hW : (rest.map fun v => v.category).sum ≤ 8) (dd : decode cc pc = .ok (.invokevirtual 351, 3)) (kk2 : XJ K nL (Wm K M v) (pc + 3) L (rest)) : XJ K nL (Wm K M σ) pc L (.ref (mO M) :: rest) :=
  m_callV (rest := rest) (v := none) [] 0 rfl C B dK hd (Nat.le_of_ble_eq_true rfl) (lw_V q2235 q2237 qs84 q133 q2238) (by decide +kernel) (met_oneDay B.2 hf) rfl hW dd kk2
def f_passDays_19 (n : Nat) : Nat → Int32 → Int32 → MS → Option (Int32 × MS)
  | 0, _, _, _ => none
  | m + 1, x2, x3, σ => if x2 ≤ x3 then (some (x2, σ)) else ((f_oneDay n σ).bind fun r2 => f_passDays_19 n m x2 (x3 + (1 : Int32)) r2)
set_option maxHeartbeats 4000000 in
theorem w_passDays_19 {K : KT} {M : MT} {r : Int32} {τ : MS} (n : Nat) (C : Kok K cX10_passDays 4 RX10) (B : MB K M) (hr : (kMe K).sig.returnType = some .int) (dK : kR K = rmD 5) (hQ : KQm K M (some (.int r)) τ) : ∀ (m : Nat) (x2 : Int32) (x3 : Int32) (σ : MS) (hf : f_passDays_19 n m x2 x3 σ = some (r, τ)), XJ K 4 (Wm K M σ) 19 [(0, .ref (mO M)), (2, .int x2), (3, .int x3)] [] := by
  intro m
  induction m with
  | zero => intro x2 x3 σ hf; cases hf
  | succ m ih =>
    intro x2 x3 σ hf
    rw [f_passDays_19] at hf
    refine x_iload_n C dX10_passDays_19 2 rfl ?_
    refine x_iload_n C dX10_passDays_20 1 rfl ?_
    refine x_icmp_ge (tgt := 34) C dX10_passDays_21 (by decide) (fun c1 => ?_) (fun c1 => ?_)
    · have hf := pf_t c1 hf
      refine x_iload_n C dX10_passDays_34 1 rfl ?_
      obtain ⟨rfl, rfl⟩ := Prod.mk.inj (Option.some.inj hf)
      exact m_iret C hr hQ dX10_passDays_35
    · have hf := pf_f c1 hf
      refine x_aload_n C dX10_passDays_24 0 rfl ?_
      obtain ⟨r2, er2, hf⟩ := pf_b hf
      refine mc_oneDay C B dK (Nat.le_of_ble_eq_true rfl) er2 (Nat.le_of_ble_eq_true rfl) dX10_passDays_25 ?_
      refine x_inc (c := (1 : Int32)) (L' := [(0, .ref (mO M)), (2, .int x2), (3, .int (x3 + (1 : Int32)))]) C dX10_passDays_28 2 rfl (by decide) (Nat.le_of_ble_eq_true rfl) [1, 2, 0] rfl ?_
      refine x_goto (tgt := 19) C dX10_passDays_31 (by decide) ?_
      exact ih x2 (x3 + (1 : Int32)) _ hf
def f_passDays (n : Nat) (x1 : Int32) (σ : MS) : Option (Int32 × MS) := ev (f_least x1 ((400 : Int32) - (ga σ 14 198))) fun v1 => f_passDays_19 n n v1 (0 : Int32) σ
set_option maxHeartbeats 4000000 in
theorem w_passDays_E {K : KT} {M : MT} {r : Int32} {τ : MS} (n : Nat) (C : Kok K cX10_passDays 4 RX10) (B : MB K M) (hr : (kMe K).sig.returnType = some .int) (dK : kR K = rmD 5) (hQ : KQm K M (some (.int r)) τ) (x1 : Int32) (σ : MS) (hf : f_passDays n x1 σ = some (r, τ)) : XJ K 4 (Wm K M σ) 0 [(0, .ref (mO M)), (1, .int x1)] [] := by
  unfold f_passDays at hf
  refine x_iload_n C dX10_passDays_0 1 rfl ?_
  refine x_sipush (400 : Int32) C dX10_passDays_1 (by decide) ?_
  refine x_aload_n C dX10_passDays_4 0 rfl ?_
  refine mg_14 C B dX10_passDays_5 ?_
  refine x_sipush (198 : Int32) C dX10_passDays_8 (by decide) ?_
  refine mlc_14 198 C B (by decide +kernel) dX10_passDays_11 ?_
  refine x_isub C dX10_passDays_12 ?_
  refine mc_least C B dK (Nat.le_of_ble_eq_true rfl) rfl (Nat.le_of_ble_eq_true rfl) dX10_passDays_13 ?_
  obtain ⟨v1, ev1, hf⟩ := pf_e hf
  refine x_topir ev1 ?_
  refine x_istore_n (L' := [(0, .ref (mO M)), (2, .int v1)]) C dX10_passDays_16 (Nat.le_of_ble_eq_true rfl) [1, 0] rfl ?_
  refine x_iconst (0 : Int32) C dX10_passDays_17 (by decide) ?_
  refine x_istore_n (L' := [(0, .ref (mO M)), (2, .int v1), (3, .int (0 : Int32))]) C dX10_passDays_18 (Nat.le_of_ble_eq_true rfl) [1, 2, 0] rfl ?_
  exact w_passDays_19 n C B hr dK hQ n v1 (0 : Int32) _ hf
theorem met_passDays {M : MT} {v : (Int32 × MS)} {n : Nat} {σ : MS} {x1 : Int32} {l : Launch} (hc : (mCl M)[mCi M]? = some (RX10, TX10, 61)) (hf : f_passDays n x1 σ = some v) : Met l yX10_passDays (ws_ yX10_passDays cX10_passDays 4 (some .int)) (rmD 5) (va_Pc [.ref (mO M), .int x1] (MU M σ)) (Qm M (some (.int v.1)) v.2) 0 0 (mAd M) :=
  m_met [.ref (mO M), .int x1] (by decide) rfl (Nat.le_of_ble_eq_true rfl) hc (fun K hl hR hr C B hQ => w_passDays_E _ C B hr hR hQ _ _ hf)
theorem mc_passDays {K : KT} {M : MT} {cc : ByteArray} {nL pc dk : Nat} {L : List (Nat × Value)} {rest : List Value} {σ : MS} {v : (Int32 × MS)} {n : Nat} {x1 : Int32} (C : Kok K cc nL RX10) (B : MB K M) (dK : kR K = rmD dk) (hd : 5 + 1 ≤ dk) (hf : f_passDays n x1 σ = some v) (hW : (rest.map fun v => v.category).sum ≤ 8) (dd : decode cc pc = .ok (.invokevirtual 354, 3)) (kk2 : XJ K nL (Wm K M v.2) (pc + 3) L ((.int v.1) :: rest)) : XJ K nL (Wm K M σ) pc L (.int x1 :: .ref (mO M) :: rest) :=
  m_callV (rest := rest) (v := (some (.int v.1))) [.int x1] 1 rfl C B dK hd (Nat.le_of_ble_eq_true rfl) (lw_V q2228 q2230 qs83 q133 q2231) (by decide +kernel) (met_passDays B.2 hf) rfl hW dd kk2
def f_days (n : Nat) (x1 : Int32) (x2 : Int32) (σ : MS) : Option (Int32 × MS) := ev (si σ 0 (0 : Int32)) fun s1 => if (f_isIn x1 (1 : Int32) (60 : Int32)) = 0 then (some ((-1 : Int32), s1)) else (if (ga s1 14 198) = (400 : Int32) then (some ((0 : Int32), s1)) else ((f_snap n s1).bind fun r4 => ev (si r4 27 x2) fun s5 => (f_passDays n x1 s5).bind fun r6 => some (r6.1, r6.2)))
set_option maxHeartbeats 4000000 in
theorem w_days_E {K : KT} {M : MT} {r : Int32} {τ : MS} (n : Nat) (C : Kok K cX10_days 3 RX10) (B : MB K M) (hr : (kMe K).sig.returnType = some .int) (dK : kR K = rmD 6) (hQ : KQm K M (some (.int r)) τ) (x1 : Int32) (x2 : Int32) (σ : MS) (hf : f_days n x1 x2 σ = some (r, τ)) : XJ K 3 (Wm K M σ) 0 [(0, .ref (mO M)), (1, .int x1), (2, .int x2)] [] := by
  unfold f_days at hf
  refine x_aload_n C dX10_days_0 0 rfl ?_
  refine x_iconst (0 : Int32) C dX10_days_1 (by decide) ?_
  refine mp_0 C B dX10_days_2 ?_
  obtain ⟨s1, es1, hf⟩ := pf_e hf
  refine m_ren es1 ?_
  refine x_iload_n C dX10_days_5 1 rfl ?_
  refine x_iconst (1 : Int32) C dX10_days_6 (by decide) ?_
  refine x_bipush (60 : Int32) C dX10_days_7 (by decide) ?_
  refine mc_isIn C B dK (Nat.le_of_ble_eq_true rfl) rfl (Nat.le_of_ble_eq_true rfl) dX10_days_9 ?_
  refine x_if_ne (tgt := 17) C dX10_days_12 (by decide) (fun c2 => ?_) (fun c2 => ?_)
  · have hf := pf_f c2 hf
    refine x_aload_n C dX10_days_17 0 rfl ?_
    refine mg_14 C B dX10_days_18 ?_
    refine x_sipush (198 : Int32) C dX10_days_21 (by decide) ?_
    refine mlc_14 198 C B (by decide +kernel) dX10_days_24 ?_
    refine x_sipush (400 : Int32) C dX10_days_25 (by decide) ?_
    refine x_icmp_ne (tgt := 33) C dX10_days_28 (by decide) (fun c3 => ?_) (fun c3 => ?_)
    · have hf := pf_f c3 hf
      refine x_aload_n C dX10_days_33 0 rfl ?_
      obtain ⟨r4, er4, hf⟩ := pf_b hf
      refine mc_snap C B dK (Nat.le_of_ble_eq_true rfl) er4 (Nat.le_of_ble_eq_true rfl) dX10_days_34 ?_
      refine x_aload_n C dX10_days_37 0 rfl ?_
      refine x_iload_n C dX10_days_38 2 rfl ?_
      refine mp_27 C B dX10_days_39 ?_
      obtain ⟨s5, es5, hf⟩ := pf_e hf
      refine m_ren es5 ?_
      refine x_aload_n C dX10_days_42 0 rfl ?_
      refine x_iload_n C dX10_days_43 1 rfl ?_
      obtain ⟨r6, er6, hf⟩ := pf_b hf
      refine mc_passDays C B dK (Nat.le_of_ble_eq_true rfl) er6 (Nat.le_of_ble_eq_true rfl) dX10_days_44 ?_
      obtain ⟨rfl, rfl⟩ := Prod.mk.inj (Option.some.inj hf)
      exact m_iret C hr hQ dX10_days_47
    · have hf := pf_t c3 hf
      refine x_iconst (0 : Int32) C dX10_days_31 (by decide) ?_
      obtain ⟨rfl, rfl⟩ := Prod.mk.inj (Option.some.inj hf)
      exact m_iret C hr hQ dX10_days_32
  · have hf := pf_t c2 hf
    refine x_iconst (-1 : Int32) C dX10_days_15 (by decide) ?_
    obtain ⟨rfl, rfl⟩ := Prod.mk.inj (Option.some.inj hf)
    exact m_iret C hr hQ dX10_days_16
theorem met_days {M : MT} {v : (Int32 × MS)} {n : Nat} {σ : MS} {x1 : Int32} {x2 : Int32} {l : Launch} (hc : (mCl M)[mCi M]? = some (RX10, TX10, 61)) (hf : f_days n x1 x2 σ = some v) : Met l yX10_days (ws_ yX10_days cX10_days 3 (some .int)) (rmD 6) (va_Pc [.ref (mO M), .int x1, .int x2] (MU M σ)) (Qm M (some (.int v.1)) v.2) 0 0 (mAd M) :=
  m_met [.ref (mO M), .int x1, .int x2] (by decide) rfl (Nat.le_of_ble_eq_true rfl) hc (fun K hl hR hr C B hQ => w_days_E _ C B hr hR hQ _ _ _ hf)
def f_common_4 (n : Nat) : Nat → Int32 → Int32 → Option Int32
  | 0, _, _ => none
  | m + 1, x2, x3 => if x3 = 0 then (some x2) else (if ¬ x3 = 0 then ev (x2 - x2 / x3 * x3) fun v3 => f_common_4 n m x3 v3 else none)
set_option maxHeartbeats 4000000 in
theorem w_common_4 {K : KT} {M : MT} {r : Int32} {σ : MS} (n : Nat) (C : Kok K cX10_common 5 RX10) (B : MB K M) (hr : (kMe K).sig.returnType = some .int) (dK : kR K = rmD 1) (hQ : KQm K M (some (.int r)) σ) : ∀ (m : Nat) (x2 : Int32) (x3 : Int32) (hf : f_common_4 n m x2 x3 = some r), XJ K 5 (Wm K M σ) 4 [(2, .int x2), (3, .int x3)] [] := by
  intro m
  induction m with
  | zero => intro x2 x3 hf; cases hf
  | succ m ih =>
    intro x2 x3 hf
    rw [f_common_4] at hf
    refine x_iload_n C dX10_common_4 1 rfl ?_
    refine x_if_eq (tgt := 21) C dX10_common_5 (by decide) (fun c1 => ?_) (fun c1 => ?_)
    · have hf := pf_t c1 hf
      refine x_iload_n C dX10_common_21 0 rfl ?_
      obtain rfl := Option.some.inj hf
      exact m_iret C hr hQ dX10_common_22
    · have hf := pf_f c1 hf
      refine x_iload_n C dX10_common_8 0 rfl ?_
      refine x_iload_n C dX10_common_9 1 rfl ?_
      obtain ⟨h2, hf⟩ := pf_ch hf
      refine x_irem C h2 dX10_common_10 ?_
      obtain ⟨v3, ev3, hf⟩ := pf_e hf
      refine x_topir ev3 ?_
      refine x_istore (L' := [(3, .int x3), (4, .int v3)]) C dX10_common_11 (Nat.le_of_ble_eq_true rfl) [2, 0] rfl ?_
      refine x_iload_n C dX10_common_13 0 rfl ?_
      refine x_istore_n (L' := [(2, .int x3), (4, .int v3)]) C dX10_common_14 (Nat.le_of_ble_eq_true rfl) [0, 2] rfl ?_
      refine x_iload C dX10_common_15 1 rfl ?_
      refine x_istore_n (L' := [(2, .int x3), (3, .int v3)]) C dX10_common_17 (Nat.le_of_ble_eq_true rfl) [1, 0] rfl ?_
      refine x_goto (tgt := 4) C dX10_common_18 (by decide) ?_
      exact ih x3 v3 hf
def f_common (n : Nat) (x0 : Int32) (x1 : Int32) : Option Int32 := f_common_4 n n x0 x1
set_option maxHeartbeats 4000000 in
theorem w_common_E {K : KT} {M : MT} {r : Int32} {σ : MS} (n : Nat) (C : Kok K cX10_common 5 RX10) (B : MB K M) (hr : (kMe K).sig.returnType = some .int) (dK : kR K = rmD 1) (hQ : KQm K M (some (.int r)) σ) (x0 : Int32) (x1 : Int32) (hf : f_common n x0 x1 = some r) : XJ K 5 (Wm K M σ) 0 [(0, .int x0), (1, .int x1)] [] := by
  unfold f_common at hf
  refine x_iload_n C dX10_common_0 0 rfl ?_
  refine x_istore_n (L' := [(1, .int x1), (2, .int x0)]) C dX10_common_1 (Nat.le_of_ble_eq_true rfl) [2, 0] rfl ?_
  refine x_iload_n C dX10_common_2 0 rfl ?_
  refine x_istore_n (L' := [(2, .int x0), (3, .int x1)]) C dX10_common_3 (Nat.le_of_ble_eq_true rfl) [2, 0] rfl ?_
  exact w_common_4 n C B hr dK hQ n x0 x1 hf
theorem met_common {M : MT} {v : Int32} {n : Nat} {σ : MS} {x0 : Int32} {x1 : Int32} {l : Launch} (hc : (mCl M)[mCi M]? = some (RX10, TX10, 61)) (hf : f_common n x0 x1 = some v) : Met l yX10_common (ws_ yX10_common cX10_common 5 (some .int)) (rmD 1) (va_Pc [.int x0, .int x1] (MU M σ)) (Qm M (some (.int v)) σ) 0 0 (mAd M) :=
  m_met [.int x0, .int x1] (by decide) rfl (Nat.le_of_ble_eq_true rfl) hc (fun K hl hR hr C B hQ => w_common_E _ C B hr hR hQ _ _ hf)
theorem mc_common {K : KT} {M : MT} {cc : ByteArray} {nL pc dk : Nat} {L : List (Nat × Value)} {rest : List Value} {σ : MS} {v : Int32} {n : Nat} {x0 : Int32} {x1 : Int32} (C : Kok K cc nL RX10) (B : MB K M) (dK : kR K = rmD dk) (hd : 1 + 1 ≤ dk) (hf : f_common n x0 x1 = some v) (hW : (rest.map fun v => v.category).sum ≤ 8) (dd : decode cc pc = .ok (.invokestatic 359, 3)) (kk2 : XJ K nL (Wm K M σ) (pc + 3) L ((.int v) :: rest)) : XJ K nL (Wm K M σ) pc L (.int x1 :: .int x0 :: rest) :=
  m_callS (rest := rest) (v := (some (.int v))) [.int x0, .int x1] 2 rfl C B dK hd (Nat.le_of_ble_eq_true rfl) (lw_S q2274 q2275 q133 q2276) (by decide +kernel) (met_common B.2 hf) rfl hW dd kk2
def f_size (x0 : Int32) : Int32 := if 0 ≤ x0 then (x0) else (-x0)
set_option maxHeartbeats 4000000 in
theorem w_size_E {K : KT} {M : MT} {r : Int32} {σ : MS} (C : Kok K cX10_size 1 RX10) (B : MB K M) (hr : (kMe K).sig.returnType = some .int) (dK : kR K = rmD 1) (hQ : KQm K M (some (.int r)) σ) (x0 : Int32) (hf : f_size x0 = r) : XJ K 1 (Wm K M σ) 0 [(0, .int x0)] [] := by
  unfold f_size at hf
  refine x_iload_n C dX10_size_0 0 rfl ?_
  refine x_if_ge (tgt := 9) C dX10_size_1 (by decide) (fun c1 => ?_) (fun c1 => ?_)
  · have hf := pf_t c1 hf
    refine x_iload_n C dX10_size_9 0 rfl ?_
    subst hf
    exact m_iret C hr hQ dX10_size_10
  · have hf := pf_f c1 hf
    refine x_iload_n C dX10_size_4 0 rfl ?_
    refine x_ineg C dX10_size_5 ?_
    refine x_goto (tgt := 10) C dX10_size_6 (by decide) ?_
    subst hf
    exact m_iret C hr hQ dX10_size_10
theorem met_size {M : MT} {v : Int32} {σ : MS} {x0 : Int32} {l : Launch} (hc : (mCl M)[mCi M]? = some (RX10, TX10, 61)) (hf : f_size x0 = v) : Met l yX10_size (ws_ yX10_size cX10_size 1 (some .int)) (rmD 1) (va_Pc [.int x0] (MU M σ)) (Qm M (some (.int v)) σ) 0 0 (mAd M) :=
  m_met [.int x0] (by decide) rfl (Nat.le_of_ble_eq_true rfl) hc (fun K hl hR hr C B hQ => w_size_E C B hr hR hQ _ hf)
theorem mc_size {K : KT} {M : MT} {cc : ByteArray} {nL pc dk : Nat} {L : List (Nat × Value)} {rest : List Value} {σ : MS} {v : Int32} {x0 : Int32} (C : Kok K cc nL RX10) (B : MB K M) (dK : kR K = rmD dk) (hd : 1 + 1 ≤ dk) (hf : f_size x0 = v) (hW : (rest.map fun v => v.category).sum ≤ 8) (dd : decode cc pc = .ok (.invokestatic 357, 3)) (kk2 : XJ K nL (Wm K M σ) (pc + 3) L ((.int v) :: rest)) : XJ K nL (Wm K M σ) pc L (.int x0 :: rest) :=
  m_callS (rest := rest) (v := (some (.int v))) [.int x0] 1 rfl C B dK hd (Nat.le_of_ble_eq_true rfl) (lw_S q2271 q2272 q133 q2273) (by decide +kernel) (met_size B.2 hf) rfl hW dd kk2
def f_part (n : Nat) (x0 : Int32) (x1 : Int32) (x2 : Int32) : Option Int32 := if x2 = 0 then ((f_common n x1 (f_size x0)).bind fun r4 => if ¬ r4 = 0 then some (x0 / r4) else none) else ((f_common n x1 (f_size x0)).bind fun r2 => if ¬ r2 = 0 then some (x1 / r2) else none)
set_option maxHeartbeats 4000000 in
theorem w_part_E {K : KT} {M : MT} {r : Int32} {σ : MS} (n : Nat) (C : Kok K cX10_part 3 RX10) (B : MB K M) (hr : (kMe K).sig.returnType = some .int) (dK : kR K = rmD 2) (hQ : KQm K M (some (.int r)) σ) (x0 : Int32) (x1 : Int32) (x2 : Int32) (hf : f_part n x0 x1 x2 = some r) : XJ K 3 (Wm K M σ) 0 [(0, .int x0), (1, .int x1), (2, .int x2)] [] := by
  unfold f_part at hf
  refine x_iload_n C dX10_part_0 2 rfl ?_
  refine x_if_ne (tgt := 8) C dX10_part_1 (by decide) (fun c1 => ?_) (fun c1 => ?_)
  · have hf := pf_f c1 hf
    refine x_iload_n C dX10_part_8 1 rfl ?_
    refine x_iload_n C dX10_part_9 1 rfl ?_
    refine x_iload_n C dX10_part_10 0 rfl ?_
    refine mc_size C B dK (Nat.le_of_ble_eq_true rfl) rfl (Nat.le_of_ble_eq_true rfl) dX10_part_11 ?_
    obtain ⟨r2, er2, hf⟩ := pf_b hf
    refine mc_common C B dK (Nat.le_of_ble_eq_true rfl) er2 (Nat.le_of_ble_eq_true rfl) dX10_part_14 ?_
    obtain ⟨h3, hf⟩ := pf_ch hf
    refine x_idiv C h3 dX10_part_17 ?_
    obtain rfl := Option.some.inj hf
    exact m_iret C hr hQ dX10_part_18
  · have hf := pf_t c1 hf
    refine x_iload_n C dX10_part_4 0 rfl ?_
    refine x_goto (tgt := 9) C dX10_part_5 (by decide) ?_
    refine x_iload_n C dX10_part_9 1 rfl ?_
    refine x_iload_n C dX10_part_10 0 rfl ?_
    refine mc_size C B dK (Nat.le_of_ble_eq_true rfl) rfl (Nat.le_of_ble_eq_true rfl) dX10_part_11 ?_
    obtain ⟨r4, er4, hf⟩ := pf_b hf
    refine mc_common C B dK (Nat.le_of_ble_eq_true rfl) er4 (Nat.le_of_ble_eq_true rfl) dX10_part_14 ?_
    obtain ⟨h5, hf⟩ := pf_ch hf
    refine x_idiv C h5 dX10_part_17 ?_
    obtain rfl := Option.some.inj hf
    exact m_iret C hr hQ dX10_part_18
theorem met_part {M : MT} {v : Int32} {n : Nat} {σ : MS} {x0 : Int32} {x1 : Int32} {x2 : Int32} {l : Launch} (hc : (mCl M)[mCi M]? = some (RX10, TX10, 61)) (hf : f_part n x0 x1 x2 = some v) : Met l yX10_part (ws_ yX10_part cX10_part 3 (some .int)) (rmD 2) (va_Pc [.int x0, .int x1, .int x2] (MU M σ)) (Qm M (some (.int v)) σ) 0 0 (mAd M) :=
  m_met [.int x0, .int x1, .int x2] (by decide) rfl (Nat.le_of_ble_eq_true rfl) hc (fun K hl hR hr C B hQ => w_part_E _ C B hr hR hQ _ _ _ hf)
theorem mc_part {K : KT} {M : MT} {cc : ByteArray} {nL pc dk : Nat} {L : List (Nat × Value)} {rest : List Value} {σ : MS} {v : Int32} {n : Nat} {x0 : Int32} {x1 : Int32} {x2 : Int32} (C : Kok K cc nL RX10) (B : MB K M) (dK : kR K = rmD dk) (hd : 2 + 1 ≤ dk) (hf : f_part n x0 x1 x2 = some v) (hW : (rest.map fun v => v.category).sum ≤ 8) (dd : decode cc pc = .ok (.invokestatic 366, 3)) (kk2 : XJ K nL (Wm K M σ) (pc + 3) L ((.int v) :: rest)) : XJ K nL (Wm K M σ) pc L (.int x2 :: .int x1 :: .int x0 :: rest) :=
  m_callS (rest := rest) (v := (some (.int v))) [.int x0, .int x1, .int x2] 3 rfl C B dK hd (Nat.le_of_ble_eq_true rfl) (lw_S q2268 q2269 q133 q2270) (by decide +kernel) (met_part B.2 hf) rfl hW dd kk2
def f_yieldOf_6 (n : Nat) (σ : MS) : Nat → Int32 → Int32 → Int32 → Int32 → Int32 → Int32 → Option Int32
  | 0, _, _, _, _, _, _ => none
  | m + 1, x2, x3, x4, x5, x6, x7 => if (ga σ 14 4) ≤ x7 then (some x6) else (if (f_has x5 x7) = 0 then ((f_comes n σ x7 x2).bind fun r3 => if r3 = 0 then (f_yieldOf_6 n σ m x2 x3 x4 x5 x6 (x7 + (1 : Int32))) else ((f_worthOf σ x7 x4).bind fun r5 => if inb (((86 : Int32) + ((5 : Int32) * x7)) + x3) 532 = true then if inb ((70 : Int32) + x7) 532 = true then if ¬ (ga σ 14 (Int32.toNatClampNeg ((70 : Int32) + x7))) = 0 then ev (x6 + ((r5 * (ga σ 14 (Int32.toNatClampNeg (((86 : Int32) + ((5 : Int32) * x7)) + x3)))) * ((420 : Int32) / (ga σ 14 (Int32.toNatClampNeg ((70 : Int32) + x7)))))) fun v9 => f_yieldOf_6 n σ m x2 x3 x4 x5 v9 (x7 + (1 : Int32)) else none else none else none)) else (f_yieldOf_6 n σ m x2 x3 x4 x5 x6 (x7 + (1 : Int32))))
set_option maxHeartbeats 4000000 in
theorem w_yieldOf_6 {K : KT} {M : MT} {r : Int32} (n : Nat) (σ : MS) (C : Kok K cX10_yieldOf 8 RX10) (B : MB K M) (hr : (kMe K).sig.returnType = some .int) (dK : kR K = rmD 2) (hQ : KQm K M (some (.int r)) σ) : ∀ (m : Nat) (x2 : Int32) (x3 : Int32) (x4 : Int32) (x5 : Int32) (x6 : Int32) (x7 : Int32) (hf : f_yieldOf_6 n σ m x2 x3 x4 x5 x6 x7 = some r), XJ K 8 (Wm K M σ) 6 [(0, .ref (mO M)), (2, .int x2), (3, .int x3), (4, .int x4), (5, .int x5), (6, .int x6), (7, .int x7)] [] := by
  intro m
  induction m with
  | zero => intro x2 x3 x4 x5 x6 x7 hf; cases hf
  | succ m ih =>
    intro x2 x3 x4 x5 x6 x7 hf
    rw [f_yieldOf_6] at hf
    refine x_iload C dX10_yieldOf_6 6 rfl ?_
    refine x_aload_n C dX10_yieldOf_8 0 rfl ?_
    refine mg_14 C B dX10_yieldOf_9 ?_
    refine x_iconst (4 : Int32) C dX10_yieldOf_12 (by decide) ?_
    refine mlc_14 4 C B (by decide +kernel) dX10_yieldOf_13 ?_
    refine x_icmp_ge (tgt := 86) C dX10_yieldOf_14 (by decide) (fun c1 => ?_) (fun c1 => ?_)
    · have hf := pf_t c1 hf
      refine x_iload C dX10_yieldOf_86 5 rfl ?_
      obtain rfl := Option.some.inj hf
      exact m_iret C hr hQ dX10_yieldOf_88
    · have hf := pf_f c1 hf
      refine x_iload C dX10_yieldOf_17 4 rfl ?_
      refine x_iload C dX10_yieldOf_19 6 rfl ?_
      refine mc_has C B dK (Nat.le_of_ble_eq_true rfl) rfl (Nat.le_of_ble_eq_true rfl) dX10_yieldOf_21 ?_
      refine x_if_ne (tgt := 80) C dX10_yieldOf_24 (by decide) (fun c2 => ?_) (fun c2 => ?_)
      · have hf := pf_f c2 hf
        refine x_inc (c := (1 : Int32)) (L' := [(0, .ref (mO M)), (2, .int x2), (3, .int x3), (4, .int x4), (5, .int x5), (6, .int x6), (7, .int (x7 + (1 : Int32)))]) C dX10_yieldOf_80 6 rfl (by decide) (Nat.le_of_ble_eq_true rfl) [1, 2, 3, 4, 5, 6, 0] rfl ?_
        refine x_goto (tgt := 6) C dX10_yieldOf_83 (by decide) ?_
        exact ih x2 x3 x4 x5 x6 (x7 + (1 : Int32)) hf
      · have hf := pf_t c2 hf
        refine x_aload_n C dX10_yieldOf_27 0 rfl ?_
        refine x_iload C dX10_yieldOf_28 6 rfl ?_
        refine x_iload_n C dX10_yieldOf_30 1 rfl ?_
        obtain ⟨r3, er3, hf⟩ := pf_b hf
        refine mc_comes C B dK (Nat.le_of_ble_eq_true rfl) er3 (Nat.le_of_ble_eq_true rfl) dX10_yieldOf_31 ?_
        refine x_if_eq (tgt := 80) C dX10_yieldOf_34 (by decide) (fun c4 => ?_) (fun c4 => ?_)
        · have hf := pf_t c4 hf
          refine x_inc (c := (1 : Int32)) (L' := [(0, .ref (mO M)), (2, .int x2), (3, .int x3), (4, .int x4), (5, .int x5), (6, .int x6), (7, .int (x7 + (1 : Int32)))]) C dX10_yieldOf_80 6 rfl (by decide) (Nat.le_of_ble_eq_true rfl) [1, 2, 3, 4, 5, 6, 0] rfl ?_
          refine x_goto (tgt := 6) C dX10_yieldOf_83 (by decide) ?_
          exact ih x2 x3 x4 x5 x6 (x7 + (1 : Int32)) hf
        · have hf := pf_f c4 hf
          refine x_iload C dX10_yieldOf_37 5 rfl ?_
          refine x_aload_n C dX10_yieldOf_39 0 rfl ?_
          refine x_iload C dX10_yieldOf_40 6 rfl ?_
          refine x_iload C dX10_yieldOf_42 3 rfl ?_
          obtain ⟨r5, er5, hf⟩ := pf_b hf
          refine mc_worthOf C B dK (Nat.le_of_ble_eq_true rfl) er5 (Nat.le_of_ble_eq_true rfl) dX10_yieldOf_44 ?_
          refine x_aload_n C dX10_yieldOf_47 0 rfl ?_
          refine mg_14 C B dX10_yieldOf_48 ?_
          refine x_bipush (86 : Int32) C dX10_yieldOf_51 (by decide) ?_
          refine x_iconst (5 : Int32) C dX10_yieldOf_53 (by decide) ?_
          refine x_iload C dX10_yieldOf_54 6 rfl ?_
          refine x_imul C dX10_yieldOf_56 ?_
          refine x_iadd C dX10_yieldOf_57 ?_
          refine x_iload_n C dX10_yieldOf_58 2 rfl ?_
          refine x_iadd C dX10_yieldOf_59 ?_
          obtain ⟨h6, hf⟩ := pf_in hf
          refine ml_14 C B h6 dX10_yieldOf_60 ?_
          refine x_imul C dX10_yieldOf_61 ?_
          refine x_sipush (420 : Int32) C dX10_yieldOf_62 (by decide) ?_
          refine x_aload_n C dX10_yieldOf_65 0 rfl ?_
          refine mg_14 C B dX10_yieldOf_66 ?_
          refine x_bipush (70 : Int32) C dX10_yieldOf_69 (by decide) ?_
          refine x_iload C dX10_yieldOf_71 6 rfl ?_
          refine x_iadd C dX10_yieldOf_73 ?_
          obtain ⟨h7, hf⟩ := pf_in hf
          refine ml_14 C B h7 dX10_yieldOf_74 ?_
          obtain ⟨h8, hf⟩ := pf_ch hf
          refine x_idiv C h8 dX10_yieldOf_75 ?_
          refine x_imul C dX10_yieldOf_76 ?_
          refine x_iadd C dX10_yieldOf_77 ?_
          obtain ⟨v9, ev9, hf⟩ := pf_e hf
          refine x_topir ev9 ?_
          refine x_istore (L' := [(0, .ref (mO M)), (2, .int x2), (3, .int x3), (4, .int x4), (5, .int x5), (6, .int v9), (7, .int x7)]) C dX10_yieldOf_78 (Nat.le_of_ble_eq_true rfl) [1, 2, 3, 4, 5, 0, 6] rfl ?_
          refine x_inc (c := (1 : Int32)) (L' := [(0, .ref (mO M)), (2, .int x2), (3, .int x3), (4, .int x4), (5, .int x5), (6, .int v9), (7, .int (x7 + (1 : Int32)))]) C dX10_yieldOf_80 6 rfl (by decide) (Nat.le_of_ble_eq_true rfl) [1, 2, 3, 4, 5, 6, 0] rfl ?_
          refine x_goto (tgt := 6) C dX10_yieldOf_83 (by decide) ?_
          exact ih x2 x3 x4 x5 v9 (x7 + (1 : Int32)) hf
def f_yieldOf (n : Nat) (σ : MS) (x1 : Int32) (x2 : Int32) (x3 : Int32) (x4 : Int32) (x5 : Int32) : Option Int32 := f_yieldOf_6 n σ n x2 x3 x4 x5 (0 : Int32) (0 : Int32)
set_option maxHeartbeats 4000000 in
theorem w_yieldOf_E {K : KT} {M : MT} {r : Int32} (n : Nat) (σ : MS) (C : Kok K cX10_yieldOf 8 RX10) (B : MB K M) (hr : (kMe K).sig.returnType = some .int) (dK : kR K = rmD 2) (hQ : KQm K M (some (.int r)) σ) (x1 : Int32) (x2 : Int32) (x3 : Int32) (x4 : Int32) (x5 : Int32) (hf : f_yieldOf n σ x1 x2 x3 x4 x5 = some r) : XJ K 8 (Wm K M σ) 0 [(0, .ref (mO M)), (1, .int x1), (2, .int x2), (3, .int x3), (4, .int x4), (5, .int x5)] [] := by
  unfold f_yieldOf at hf
  refine x_iconst (0 : Int32) C dX10_yieldOf_0 (by decide) ?_
  refine x_istore (L' := [(0, .ref (mO M)), (2, .int x2), (3, .int x3), (4, .int x4), (5, .int x5), (6, .int (0 : Int32))]) C dX10_yieldOf_1 (Nat.le_of_ble_eq_true rfl) [1, 3, 4, 5, 6, 0] rfl ?_
  refine x_iconst (0 : Int32) C dX10_yieldOf_3 (by decide) ?_
  refine x_istore (L' := [(0, .ref (mO M)), (2, .int x2), (3, .int x3), (4, .int x4), (5, .int x5), (6, .int (0 : Int32)), (7, .int (0 : Int32))]) C dX10_yieldOf_4 (Nat.le_of_ble_eq_true rfl) [1, 2, 3, 4, 5, 6, 0] rfl ?_
  exact w_yieldOf_6 n σ C B hr dK hQ n x2 x3 x4 x5 (0 : Int32) (0 : Int32) hf
theorem met_yieldOf {M : MT} {v : Int32} {n : Nat} {σ : MS} {x1 : Int32} {x2 : Int32} {x3 : Int32} {x4 : Int32} {x5 : Int32} {l : Launch} (hc : (mCl M)[mCi M]? = some (RX10, TX10, 61)) (hf : f_yieldOf n σ x1 x2 x3 x4 x5 = some v) : Met l yX10_yieldOf (ws_ yX10_yieldOf cX10_yieldOf 8 (some .int)) (rmD 2) (va_Pc [.ref (mO M), .int x1, .int x2, .int x3, .int x4, .int x5] (MU M σ)) (Qm M (some (.int v)) σ) 0 0 (mAd M) :=
  m_met [.ref (mO M), .int x1, .int x2, .int x3, .int x4, .int x5] (by decide) rfl (Nat.le_of_ble_eq_true rfl) hc (fun K hl hR hr C B hQ => w_yieldOf_E _ _ C B hr hR hQ _ _ _ _ _ hf)
theorem mc_yieldOf {K : KT} {M : MT} {cc : ByteArray} {nL pc dk : Nat} {L : List (Nat × Value)} {rest : List Value} {σ : MS} {v : Int32} {n : Nat} {x1 : Int32} {x2 : Int32} {x3 : Int32} {x4 : Int32} {x5 : Int32} (C : Kok K cc nL RX10) (B : MB K M) (dK : kR K = rmD dk) (hd : 2 + 1 ≤ dk) (hf : f_yieldOf n σ x1 x2 x3 x4 x5 = some v) (hW : (rest.map fun v => v.category).sum ≤ 8) (dd : decode cc pc = .ok (.invokevirtual 362, 3)) (kk2 : XJ K nL (Wm K M σ) (pc + 3) L ((.int v) :: rest)) : XJ K nL (Wm K M σ) pc L (.int x5 :: .int x4 :: .int x3 :: .int x2 :: .int x1 :: .ref (mO M) :: rest) :=
  m_callV (rest := rest) (v := (some (.int v))) [.int x1, .int x2, .int x3, .int x4, .int x5] 5 rfl C B dK hd (Nat.le_of_ble_eq_true rfl) (lw_V q2264 q2266 qs90 q133 q2267) (by decide +kernel) (met_yieldOf B.2 hf) rfl hW dd kk2
def f_yields (n : Nat) (x1 : Int32) (x2 : Int32) (x3 : Int32) (x4 : Int32) (σ : MS) : Option (Int32 × MS) := ev (si σ 0 (0 : Int32)) fun s1 => if (f_isStatue s1 x1) = 0 then (ev (f_refuse s1) fun r3 => some (r3.1, r3.2)) else (if (f_isSquare s1 x2) = 0 then (ev (f_refuse s1) fun r5 => some (r5.1, r5.2)) else (if (f_isKind s1 x3) = 0 then (ev (f_refuse s1) fun r7 => some (r7.1, r7.2)) else (if (f_isIn x4 (0 : Int32) (1 : Int32)) = 0 then (ev (f_refuse s1) fun r11 => some (r11.1, r11.2)) else ((f_yieldOf n s1 x1 x2 x3 (f_has (ga s1 14 200) x1) (0 : Int32)).bind fun r9 => (f_part n r9 (5040 : Int32) x4).bind fun r10 => some (r10, s1)))))
set_option maxHeartbeats 4000000 in
theorem w_yields_E {K : KT} {M : MT} {r : Int32} {τ : MS} (n : Nat) (C : Kok K cX10_yields 5 RX10) (B : MB K M) (hr : (kMe K).sig.returnType = some .int) (dK : kR K = rmD 3) (hQ : KQm K M (some (.int r)) τ) (x1 : Int32) (x2 : Int32) (x3 : Int32) (x4 : Int32) (σ : MS) (hf : f_yields n x1 x2 x3 x4 σ = some (r, τ)) : XJ K 5 (Wm K M σ) 0 [(0, .ref (mO M)), (1, .int x1), (2, .int x2), (3, .int x3), (4, .int x4)] [] := by
  unfold f_yields at hf
  refine x_aload_n C dX10_yields_0 0 rfl ?_
  refine x_iconst (0 : Int32) C dX10_yields_1 (by decide) ?_
  refine mp_0 C B dX10_yields_2 ?_
  obtain ⟨s1, es1, hf⟩ := pf_e hf
  refine m_ren es1 ?_
  refine x_aload_n C dX10_yields_5 0 rfl ?_
  refine x_iload_n C dX10_yields_6 1 rfl ?_
  refine mc_isStatue C B dK (Nat.le_of_ble_eq_true rfl) rfl (Nat.le_of_ble_eq_true rfl) dX10_yields_7 ?_
  refine x_if_eq (tgt := 39) C dX10_yields_10 (by decide) (fun c2 => ?_) (fun c2 => ?_)
  · have hf := pf_t c2 hf
    refine x_aload_n C dX10_yields_39 0 rfl ?_
    obtain ⟨r3, er3, hf⟩ := pf_e hf
    refine mc_refuse C B dK (Nat.le_of_ble_eq_true rfl) er3.symm (Nat.le_of_ble_eq_true rfl) dX10_yields_40 ?_
    obtain ⟨rfl, rfl⟩ := Prod.mk.inj (Option.some.inj hf)
    exact m_iret C hr hQ dX10_yields_43
  · have hf := pf_f c2 hf
    refine x_aload_n C dX10_yields_13 0 rfl ?_
    refine x_iload_n C dX10_yields_14 2 rfl ?_
    refine mc_isSquare C B dK (Nat.le_of_ble_eq_true rfl) rfl (Nat.le_of_ble_eq_true rfl) dX10_yields_15 ?_
    refine x_if_eq (tgt := 39) C dX10_yields_18 (by decide) (fun c4 => ?_) (fun c4 => ?_)
    · have hf := pf_t c4 hf
      refine x_aload_n C dX10_yields_39 0 rfl ?_
      obtain ⟨r5, er5, hf⟩ := pf_e hf
      refine mc_refuse C B dK (Nat.le_of_ble_eq_true rfl) er5.symm (Nat.le_of_ble_eq_true rfl) dX10_yields_40 ?_
      obtain ⟨rfl, rfl⟩ := Prod.mk.inj (Option.some.inj hf)
      exact m_iret C hr hQ dX10_yields_43
    · have hf := pf_f c4 hf
      refine x_aload_n C dX10_yields_21 0 rfl ?_
      refine x_iload_n C dX10_yields_22 3 rfl ?_
      refine mc_isKind C B dK (Nat.le_of_ble_eq_true rfl) rfl (Nat.le_of_ble_eq_true rfl) dX10_yields_23 ?_
      refine x_if_eq (tgt := 39) C dX10_yields_26 (by decide) (fun c6 => ?_) (fun c6 => ?_)
      · have hf := pf_t c6 hf
        refine x_aload_n C dX10_yields_39 0 rfl ?_
        obtain ⟨r7, er7, hf⟩ := pf_e hf
        refine mc_refuse C B dK (Nat.le_of_ble_eq_true rfl) er7.symm (Nat.le_of_ble_eq_true rfl) dX10_yields_40 ?_
        obtain ⟨rfl, rfl⟩ := Prod.mk.inj (Option.some.inj hf)
        exact m_iret C hr hQ dX10_yields_43
      · have hf := pf_f c6 hf
        refine x_iload C dX10_yields_29 4 rfl ?_
        refine x_iconst (0 : Int32) C dX10_yields_31 (by decide) ?_
        refine x_iconst (1 : Int32) C dX10_yields_32 (by decide) ?_
        refine mc_isIn C B dK (Nat.le_of_ble_eq_true rfl) rfl (Nat.le_of_ble_eq_true rfl) dX10_yields_33 ?_
        refine x_if_ne (tgt := 44) C dX10_yields_36 (by decide) (fun c8 => ?_) (fun c8 => ?_)
        · have hf := pf_f c8 hf
          refine x_aload_n C dX10_yields_44 0 rfl ?_
          refine x_iload_n C dX10_yields_45 1 rfl ?_
          refine x_iload_n C dX10_yields_46 2 rfl ?_
          refine x_iload_n C dX10_yields_47 3 rfl ?_
          refine x_aload_n C dX10_yields_48 0 rfl ?_
          refine mg_14 C B dX10_yields_49 ?_
          refine x_sipush (200 : Int32) C dX10_yields_52 (by decide) ?_
          refine mlc_14 200 C B (by decide +kernel) dX10_yields_55 ?_
          refine x_iload_n C dX10_yields_56 1 rfl ?_
          refine mc_has C B dK (Nat.le_of_ble_eq_true rfl) rfl (Nat.le_of_ble_eq_true rfl) dX10_yields_57 ?_
          refine x_iconst (0 : Int32) C dX10_yields_60 (by decide) ?_
          obtain ⟨r9, er9, hf⟩ := pf_b hf
          refine mc_yieldOf C B dK (Nat.le_of_ble_eq_true rfl) er9 (Nat.le_of_ble_eq_true rfl) dX10_yields_61 ?_
          refine x_sipush (5040 : Int32) C dX10_yields_64 (by decide) ?_
          refine x_iload C dX10_yields_67 4 rfl ?_
          obtain ⟨r10, er10, hf⟩ := pf_b hf
          refine mc_part C B dK (Nat.le_of_ble_eq_true rfl) er10 (Nat.le_of_ble_eq_true rfl) dX10_yields_69 ?_
          obtain ⟨rfl, rfl⟩ := Prod.mk.inj (Option.some.inj hf)
          exact m_iret C hr hQ dX10_yields_72
        · have hf := pf_t c8 hf
          refine x_aload_n C dX10_yields_39 0 rfl ?_
          obtain ⟨r11, er11, hf⟩ := pf_e hf
          refine mc_refuse C B dK (Nat.le_of_ble_eq_true rfl) er11.symm (Nat.le_of_ble_eq_true rfl) dX10_yields_40 ?_
          obtain ⟨rfl, rfl⟩ := Prod.mk.inj (Option.some.inj hf)
          exact m_iret C hr hQ dX10_yields_43
theorem met_yields {M : MT} {v : (Int32 × MS)} {n : Nat} {σ : MS} {x1 : Int32} {x2 : Int32} {x3 : Int32} {x4 : Int32} {l : Launch} (hc : (mCl M)[mCi M]? = some (RX10, TX10, 61)) (hf : f_yields n x1 x2 x3 x4 σ = some v) : Met l yX10_yields (ws_ yX10_yields cX10_yields 5 (some .int)) (rmD 3) (va_Pc [.ref (mO M), .int x1, .int x2, .int x3, .int x4] (MU M σ)) (Qm M (some (.int v.1)) v.2) 0 0 (mAd M) :=
  m_met [.ref (mO M), .int x1, .int x2, .int x3, .int x4] (by decide) rfl (Nat.le_of_ble_eq_true rfl) hc (fun K hl hR hr C B hQ => w_yields_E _ C B hr hR hQ _ _ _ _ _ hf)
def f_isSolvent (n : Nat) (σ : MS) (x1 : Int32) (x2 : Int32) : Option Int32 := if (f_isEvicted σ x1) = 0 then (if inb ((210 : Int32) + x1) 532 = true then if inb ((202 : Int32) + x1) 532 = true then (f_yieldOf n σ x1 (ga σ 14 (Int32.toNatClampNeg ((210 : Int32) + x1))) (ga σ 14 (Int32.toNatClampNeg ((202 : Int32) + x1))) (f_has (ga σ 14 200) x1) x2).bind fun r4 => if inb ((210 : Int32) + x1) 532 = true then if inb ((6 : Int32) + (ga σ 14 (Int32.toNatClampNeg ((210 : Int32) + x1)))) 532 = true then if r4 < ((5040 : Int32) * (ga σ 14 (Int32.toNatClampNeg ((6 : Int32) + (ga σ 14 (Int32.toNatClampNeg ((210 : Int32) + x1))))))) then (some (0 : Int32)) else (some (1 : Int32)) else none else none else none else none) else (some (0 : Int32))
set_option maxHeartbeats 4000000 in
theorem w_isSolvent_E {K : KT} {M : MT} {r : Int32} (n : Nat) (σ : MS) (C : Kok K cX10_isSolvent 3 RX10) (B : MB K M) (hr : (kMe K).sig.returnType = some .boolean) (dK : kR K = rmD 3) (hQ : KQm K M (some (.int r)) σ) (x1 : Int32) (x2 : Int32) (hf : f_isSolvent n σ x1 x2 = some r) : XJ K 3 (Wm K M σ) 0 [(0, .ref (mO M)), (1, .int x1), (2, .int x2)] [] := by
  unfold f_isSolvent at hf
  refine x_aload_n C dX10_isSolvent_0 0 rfl ?_
  refine x_iload_n C dX10_isSolvent_1 1 rfl ?_
  refine mc_isEvicted C B dK (Nat.le_of_ble_eq_true rfl) rfl (Nat.le_of_ble_eq_true rfl) dX10_isSolvent_2 ?_
  refine x_if_ne (tgt := 75) C dX10_isSolvent_5 (by decide) (fun c1 => ?_) (fun c1 => ?_)
  · have hf := pf_f c1 hf
    refine x_iconst (0 : Int32) C dX10_isSolvent_75 (by decide) ?_
    obtain rfl := Option.some.inj hf
    exact m_zret C hr (Or.inl rfl) hQ dX10_isSolvent_76
  · have hf := pf_t c1 hf
    refine x_aload_n C dX10_isSolvent_8 0 rfl ?_
    refine x_iload_n C dX10_isSolvent_9 1 rfl ?_
    refine x_aload_n C dX10_isSolvent_10 0 rfl ?_
    refine mg_14 C B dX10_isSolvent_11 ?_
    refine x_sipush (210 : Int32) C dX10_isSolvent_14 (by decide) ?_
    refine x_iload_n C dX10_isSolvent_17 1 rfl ?_
    refine x_iadd C dX10_isSolvent_18 ?_
    obtain ⟨h2, hf⟩ := pf_in hf
    refine ml_14 C B h2 dX10_isSolvent_19 ?_
    refine x_aload_n C dX10_isSolvent_20 0 rfl ?_
    refine mg_14 C B dX10_isSolvent_21 ?_
    refine x_sipush (202 : Int32) C dX10_isSolvent_24 (by decide) ?_
    refine x_iload_n C dX10_isSolvent_27 1 rfl ?_
    refine x_iadd C dX10_isSolvent_28 ?_
    obtain ⟨h3, hf⟩ := pf_in hf
    refine ml_14 C B h3 dX10_isSolvent_29 ?_
    refine x_aload_n C dX10_isSolvent_30 0 rfl ?_
    refine mg_14 C B dX10_isSolvent_31 ?_
    refine x_sipush (200 : Int32) C dX10_isSolvent_34 (by decide) ?_
    refine mlc_14 200 C B (by decide +kernel) dX10_isSolvent_37 ?_
    refine x_iload_n C dX10_isSolvent_38 1 rfl ?_
    refine mc_has C B dK (Nat.le_of_ble_eq_true rfl) rfl (Nat.le_of_ble_eq_true rfl) dX10_isSolvent_39 ?_
    refine x_iload_n C dX10_isSolvent_42 2 rfl ?_
    obtain ⟨r4, er4, hf⟩ := pf_b hf
    refine mc_yieldOf C B dK (Nat.le_of_ble_eq_true rfl) er4 (Nat.le_of_ble_eq_true rfl) dX10_isSolvent_43 ?_
    refine x_sipush (5040 : Int32) C dX10_isSolvent_46 (by decide) ?_
    refine x_aload_n C dX10_isSolvent_49 0 rfl ?_
    refine mg_14 C B dX10_isSolvent_50 ?_
    refine x_bipush (6 : Int32) C dX10_isSolvent_53 (by decide) ?_
    refine x_aload_n C dX10_isSolvent_55 0 rfl ?_
    refine mg_14 C B dX10_isSolvent_56 ?_
    refine x_sipush (210 : Int32) C dX10_isSolvent_59 (by decide) ?_
    refine x_iload_n C dX10_isSolvent_62 1 rfl ?_
    refine x_iadd C dX10_isSolvent_63 ?_
    obtain ⟨h5, hf⟩ := pf_in hf
    refine ml_14 C B h5 dX10_isSolvent_64 ?_
    refine x_iadd C dX10_isSolvent_65 ?_
    obtain ⟨h6, hf⟩ := pf_in hf
    refine ml_14 C B h6 dX10_isSolvent_66 ?_
    refine x_imul C dX10_isSolvent_67 ?_
    refine x_icmp_lt (tgt := 75) C dX10_isSolvent_68 (by decide) (fun c7 => ?_) (fun c7 => ?_)
    · have hf := pf_t c7 hf
      refine x_iconst (0 : Int32) C dX10_isSolvent_75 (by decide) ?_
      obtain rfl := Option.some.inj hf
      exact m_zret C hr (Or.inl rfl) hQ dX10_isSolvent_76
    · have hf := pf_f c7 hf
      refine x_iconst (1 : Int32) C dX10_isSolvent_71 (by decide) ?_
      refine x_goto (tgt := 76) C dX10_isSolvent_72 (by decide) ?_
      obtain rfl := Option.some.inj hf
      exact m_zret C hr (Or.inr rfl) hQ dX10_isSolvent_76
theorem bz_isSolvent_E {r : Int32} {n : Nat} {σ : MS} {x1 : Int32} {x2 : Int32} (hf : f_isSolvent n σ x1 x2 = some r) : r = 0 ∨ r = 1 := by
  unfold f_isSolvent at hf
  by_cases c1 : (f_isEvicted σ x1) = 0
  · have hf := pf_t c1 hf
    obtain ⟨h2, hf⟩ := pf_in hf
    obtain ⟨h3, hf⟩ := pf_in hf
    obtain ⟨r4, er4, hf⟩ := pf_b hf
    obtain ⟨h5, hf⟩ := pf_in hf
    obtain ⟨h6, hf⟩ := pf_in hf
    by_cases c7 : r4 < ((5040 : Int32) * (ga σ 14 (Int32.toNatClampNeg ((6 : Int32) + (ga σ 14 (Int32.toNatClampNeg ((210 : Int32) + x1)))))))
    · have hf := pf_t c7 hf
      obtain rfl := Option.some.inj hf
      exact (Or.inl rfl)
    · have hf := pf_f c7 hf
      obtain rfl := Option.some.inj hf
      exact (Or.inr rfl)
  · have hf := pf_f c1 hf
    obtain rfl := Option.some.inj hf
    exact (Or.inl rfl)
theorem met_isSolvent {M : MT} {v : Int32} {n : Nat} {σ : MS} {x1 : Int32} {x2 : Int32} {l : Launch} (hc : (mCl M)[mCi M]? = some (RX10, TX10, 61)) (hf : f_isSolvent n σ x1 x2 = some v) : Met l yX10_isSolvent (ws_ yX10_isSolvent cX10_isSolvent 3 (some .boolean)) (rmD 3) (va_Pc [.ref (mO M), .int x1, .int x2] (MU M σ)) (Qm M (some (.int v)) σ) 0 0 (mAd M) :=
  m_met [.ref (mO M), .int x1, .int x2] (by decide) rfl (Nat.le_of_ble_eq_true rfl) hc (fun K hl hR hr C B hQ => w_isSolvent_E _ _ C B hr hR hQ _ _ hf)
theorem mc_isSolvent {K : KT} {M : MT} {cc : ByteArray} {nL pc dk : Nat} {L : List (Nat × Value)} {rest : List Value} {σ : MS} {v : Int32} {n : Nat} {x1 : Int32} {x2 : Int32} (C : Kok K cc nL RX10) (B : MB K M) (dK : kR K = rmD dk) (hd : 3 + 1 ≤ dk) (hf : f_isSolvent n σ x1 x2 = some v) (hW : (rest.map fun v => v.category).sum ≤ 8) (dd : decode cc pc = .ok (.invokevirtual 369, 3)) (kk2 : XJ K nL (Wm K M σ) (pc + 3) L ((.int v) :: rest)) : XJ K nL (Wm K M σ) pc L (.int x2 :: .int x1 :: .ref (mO M) :: rest) :=
  m_callV (rest := rest) (v := (some (.int v))) [.int x1, .int x2] 2 rfl C B dK hd (Nat.le_of_ble_eq_true rfl) (lw_V q2281 q2283 qs91 q133 q2284) (by decide +kernel) (met_isSolvent B.2 hf) rfl hW dd kk2
def f_solvent_9 (n : Nat) : Nat → Int32 → Int32 → MS → Option (Int32 × MS)
  | 0, _, _, _ => none
  | m + 1, x1, x2, σ => if (ga σ 14 3) ≤ x2 then (some (x1, σ)) else ((f_isSolvent n σ x2 (0 : Int32)).bind fun r2 => if r2 = 0 then (f_solvent_9 n m x1 (x2 + (1 : Int32)) σ) else (ev (x1 ||| ((1 : Int32) <<< (x2 &&& 31))) fun v4 => f_solvent_9 n m v4 (x2 + (1 : Int32)) σ))
set_option maxHeartbeats 4000000 in
theorem w_solvent_9 {K : KT} {M : MT} {r : Int32} {τ : MS} (n : Nat) (C : Kok K cX10_solvent 3 RX10) (B : MB K M) (hr : (kMe K).sig.returnType = some .int) (dK : kR K = rmD 4) (hQ : KQm K M (some (.int r)) τ) : ∀ (m : Nat) (x1 : Int32) (x2 : Int32) (σ : MS) (hf : f_solvent_9 n m x1 x2 σ = some (r, τ)), XJ K 3 (Wm K M σ) 9 [(0, .ref (mO M)), (1, .int x1), (2, .int x2)] [] := by
  intro m
  induction m with
  | zero => intro x1 x2 σ hf; cases hf
  | succ m ih =>
    intro x1 x2 σ hf
    rw [f_solvent_9] at hf
    refine x_iload_n C dX10_solvent_9 2 rfl ?_
    refine x_aload_n C dX10_solvent_10 0 rfl ?_
    refine mg_14 C B dX10_solvent_11 ?_
    refine x_iconst (3 : Int32) C dX10_solvent_14 (by decide) ?_
    refine mlc_14 3 C B (by decide +kernel) dX10_solvent_15 ?_
    refine x_icmp_ge (tgt := 40) C dX10_solvent_16 (by decide) (fun c1 => ?_) (fun c1 => ?_)
    · have hf := pf_t c1 hf
      refine x_iload_n C dX10_solvent_40 1 rfl ?_
      obtain ⟨rfl, rfl⟩ := Prod.mk.inj (Option.some.inj hf)
      exact m_iret C hr hQ dX10_solvent_41
    · have hf := pf_f c1 hf
      refine x_aload_n C dX10_solvent_19 0 rfl ?_
      refine x_iload_n C dX10_solvent_20 2 rfl ?_
      refine x_iconst (0 : Int32) C dX10_solvent_21 (by decide) ?_
      obtain ⟨r2, er2, hf⟩ := pf_b hf
      refine mc_isSolvent C B dK (Nat.le_of_ble_eq_true rfl) er2 (Nat.le_of_ble_eq_true rfl) dX10_solvent_22 ?_
      refine x_if_eq (tgt := 34) C dX10_solvent_25 (by decide) (fun c3 => ?_) (fun c3 => ?_)
      · have hf := pf_t c3 hf
        refine x_inc (c := (1 : Int32)) (L' := [(0, .ref (mO M)), (1, .int x1), (2, .int (x2 + (1 : Int32)))]) C dX10_solvent_34 2 rfl (by decide) (Nat.le_of_ble_eq_true rfl) [1, 2, 0] rfl ?_
        refine x_goto (tgt := 9) C dX10_solvent_37 (by decide) ?_
        exact ih x1 (x2 + (1 : Int32)) _ hf
      · have hf := pf_f c3 hf
        refine x_iload_n C dX10_solvent_28 1 rfl ?_
        refine x_iconst (1 : Int32) C dX10_solvent_29 (by decide) ?_
        refine x_iload_n C dX10_solvent_30 2 rfl ?_
        refine x_ishl C dX10_solvent_31 ?_
        refine x_ior C dX10_solvent_32 ?_
        obtain ⟨v4, ev4, hf⟩ := pf_e hf
        refine x_topir ev4 ?_
        refine x_istore_n (L' := [(0, .ref (mO M)), (1, .int v4), (2, .int x2)]) C dX10_solvent_33 (Nat.le_of_ble_eq_true rfl) [1, 0, 2] rfl ?_
        refine x_inc (c := (1 : Int32)) (L' := [(0, .ref (mO M)), (1, .int v4), (2, .int (x2 + (1 : Int32)))]) C dX10_solvent_34 2 rfl (by decide) (Nat.le_of_ble_eq_true rfl) [1, 2, 0] rfl ?_
        refine x_goto (tgt := 9) C dX10_solvent_37 (by decide) ?_
        exact ih v4 (x2 + (1 : Int32)) _ hf
def f_solvent (n : Nat) (σ : MS) : Option (Int32 × MS) := ev (si σ 0 (0 : Int32)) fun s1 => f_solvent_9 n n (0 : Int32) (0 : Int32) s1
set_option maxHeartbeats 4000000 in
theorem w_solvent_E {K : KT} {M : MT} {r : Int32} {τ : MS} (n : Nat) (C : Kok K cX10_solvent 3 RX10) (B : MB K M) (hr : (kMe K).sig.returnType = some .int) (dK : kR K = rmD 4) (hQ : KQm K M (some (.int r)) τ) (σ : MS) (hf : f_solvent n σ = some (r, τ)) : XJ K 3 (Wm K M σ) 0 [(0, .ref (mO M))] [] := by
  unfold f_solvent at hf
  refine x_aload_n C dX10_solvent_0 0 rfl ?_
  refine x_iconst (0 : Int32) C dX10_solvent_1 (by decide) ?_
  refine mp_0 C B dX10_solvent_2 ?_
  obtain ⟨s1, es1, hf⟩ := pf_e hf
  refine m_ren es1 ?_
  refine x_iconst (0 : Int32) C dX10_solvent_5 (by decide) ?_
  refine x_istore_n (L' := [(0, .ref (mO M)), (1, .int (0 : Int32))]) C dX10_solvent_6 (Nat.le_of_ble_eq_true rfl) [1, 0] rfl ?_
  refine x_iconst (0 : Int32) C dX10_solvent_7 (by decide) ?_
  refine x_istore_n (L' := [(0, .ref (mO M)), (1, .int (0 : Int32)), (2, .int (0 : Int32))]) C dX10_solvent_8 (Nat.le_of_ble_eq_true rfl) [1, 2, 0] rfl ?_
  exact w_solvent_9 n C B hr dK hQ n (0 : Int32) (0 : Int32) _ hf
theorem met_solvent {M : MT} {v : (Int32 × MS)} {n : Nat} {σ : MS} {l : Launch} (hc : (mCl M)[mCi M]? = some (RX10, TX10, 61)) (hf : f_solvent n σ = some v) : Met l yX10_solvent (ws_ yX10_solvent cX10_solvent 3 (some .int)) (rmD 4) (va_Pc [.ref (mO M)] (MU M σ)) (Qm M (some (.int v.1)) v.2) 0 0 (mAd M) :=
  m_met [.ref (mO M)] (by decide) rfl (Nat.le_of_ble_eq_true rfl) hc (fun K hl hR hr C B hQ => w_solvent_E _ C B hr hR hQ _ hf)
