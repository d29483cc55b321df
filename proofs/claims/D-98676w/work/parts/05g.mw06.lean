set_option maxRecDepth 100000
def f_readNamed (n : Nat) (x1 : Int32) (x2 : Int32) (σ : MS) : Option (Int32 × MS) := (f_isName n σ).bind fun r1 => if r1 = 0 then (ev (f_bad (1 : Int32) σ) fun r8 => some (r8.1, r8.2)) else ((f_findIn n σ 19 x1 x2 (gl σ 12)).bind fun r3 => ev (si σ 13 r3) fun s4 => if (gi s4 13) = (-1 : Int32) then (ev (f_bad (3 : Int32) s4) fun r7 => some (r7.1, r7.2)) else ((f_go n s4).bind fun r6 => some ((1 : Int32), r6)))
set_option maxHeartbeats 4000000 in
theorem w_readNamed_E {K : KT} {M : MT} {r : Int32} {τ : MS} (n : Nat) (C : Kok K cX10_readNamed 3 RX10) (B : MB K M) (hr : (kMe K).sig.returnType = some .boolean) (dK : kR K = rmD 4) (hQ : KQm K M (some (.int r)) τ) (x1 : Int32) (x2 : Int32) (σ : MS) (hf : f_readNamed n x1 x2 σ = some (r, τ)) : XJ K 3 (Wm K M σ) 0 [(0, .ref (mO M)), (1, .int x1), (2, .int x2)] [] := by
  unfold f_readNamed at hf
  refine x_aload_n C dX10_readNamed_0 0 rfl ?_
  obtain ⟨r1, er1, hf⟩ := pf_b hf
  refine mc_isName C B dK (Nat.le_of_ble_eq_true rfl) er1 (Nat.le_of_ble_eq_true rfl) dX10_readNamed_1 ?_
  refine x_if_ne (tgt := 13) C dX10_readNamed_4 (by decide) (fun c2 => ?_) (fun c2 => ?_)
  · have hf := pf_f c2 hf
    refine x_aload_n C dX10_readNamed_13 0 rfl ?_
    refine x_aload_n C dX10_readNamed_14 0 rfl ?_
    refine mg_19 C B dX10_readNamed_15 ?_
    refine x_iload_n C dX10_readNamed_18 1 rfl ?_
    refine x_iload_n C dX10_readNamed_19 2 rfl ?_
    refine x_aload_n C dX10_readNamed_20 0 rfl ?_
    refine mg_12 C B dX10_readNamed_21 ?_
    obtain ⟨r3, er3, hf⟩ := pf_b hf
    refine mc_findIn C B dK (Nat.le_of_ble_eq_true rfl) (Or.inl rfl) er3 (Nat.le_of_ble_eq_true rfl) dX10_readNamed_24 ?_
    refine mp_13 C B dX10_readNamed_27 ?_
    obtain ⟨s4, es4, hf⟩ := pf_e hf
    refine m_ren es4 ?_
    refine x_aload_n C dX10_readNamed_30 0 rfl ?_
    refine mg_13 C B dX10_readNamed_31 ?_
    refine x_iconst (-1 : Int32) C dX10_readNamed_34 (by decide) ?_
    refine x_icmp_ne (tgt := 44) C dX10_readNamed_35 (by decide) (fun c5 => ?_) (fun c5 => ?_)
    · have hf := pf_f c5 hf
      refine x_aload_n C dX10_readNamed_44 0 rfl ?_
      obtain ⟨r6, er6, hf⟩ := pf_b hf
      refine mc_go C B dK (Nat.le_of_ble_eq_true rfl) er6 (Nat.le_of_ble_eq_true rfl) dX10_readNamed_45 ?_
      refine x_iconst (1 : Int32) C dX10_readNamed_48 (by decide) ?_
      obtain ⟨rfl, rfl⟩ := Prod.mk.inj (Option.some.inj hf)
      exact m_zret C hr (Or.inr rfl) hQ dX10_readNamed_49
    · have hf := pf_t c5 hf
      refine x_aload_n C dX10_readNamed_38 0 rfl ?_
      refine x_iconst (3 : Int32) C dX10_readNamed_39 (by decide) ?_
      obtain ⟨r7, er7, hf⟩ := pf_e hf
      refine mc_bad C B dK (Nat.le_of_ble_eq_true rfl) er7.symm (Nat.le_of_ble_eq_true rfl) dX10_readNamed_40 ?_
      obtain ⟨rfl, rfl⟩ := Prod.mk.inj (Option.some.inj hf)
      exact m_zret C hr (bz_bad_E er7.symm) hQ dX10_readNamed_43
  · have hf := pf_t c2 hf
    refine x_aload_n C dX10_readNamed_7 0 rfl ?_
    refine x_iconst (1 : Int32) C dX10_readNamed_8 (by decide) ?_
    obtain ⟨r8, er8, hf⟩ := pf_e hf
    refine mc_bad C B dK (Nat.le_of_ble_eq_true rfl) er8.symm (Nat.le_of_ble_eq_true rfl) dX10_readNamed_9 ?_
    obtain ⟨rfl, rfl⟩ := Prod.mk.inj (Option.some.inj hf)
    exact m_zret C hr (bz_bad_E er8.symm) hQ dX10_readNamed_12
theorem bz_readNamed_E {r : Int32} {τ : MS} {n : Nat} {x1 : Int32} {x2 : Int32} {σ : MS} (hf : f_readNamed n x1 x2 σ = some (r, τ)) : r = 0 ∨ r = 1 := by
  unfold f_readNamed at hf
  obtain ⟨r1, er1, hf⟩ := pf_b hf
  by_cases c2 : r1 = 0
  · have hf := pf_t c2 hf
    obtain ⟨r8, er8, hf⟩ := pf_e hf
    obtain ⟨rfl, rfl⟩ := Prod.mk.inj (Option.some.inj hf)
    exact (bz_bad_E er8.symm)
  · have hf := pf_f c2 hf
    obtain ⟨r3, er3, hf⟩ := pf_b hf
    obtain ⟨s4, es4, hf⟩ := pf_e hf
    by_cases c5 : (gi s4 13) = (-1 : Int32)
    · have hf := pf_t c5 hf
      obtain ⟨r7, er7, hf⟩ := pf_e hf
      obtain ⟨rfl, rfl⟩ := Prod.mk.inj (Option.some.inj hf)
      exact (bz_bad_E er7.symm)
    · have hf := pf_f c5 hf
      obtain ⟨r6, er6, hf⟩ := pf_b hf
      obtain ⟨rfl, rfl⟩ := Prod.mk.inj (Option.some.inj hf)
      exact (Or.inr rfl)
theorem met_readNamed {M : MT} {v : (Int32 × MS)} {n : Nat} {σ : MS} {x1 : Int32} {x2 : Int32} {l : Launch} (hc : (mCl M)[mCi M]? = some (RX10, TX10, 61)) (hf : f_readNamed n x1 x2 σ = some v) : Met l yX10_readNamed (ws_ yX10_readNamed cX10_readNamed 3 (some .boolean)) (rmD 4) (va_Pc [.ref (mO M), .int x1, .int x2] (MU M σ)) (Qm M (some (.int v.1)) v.2) 0 0 (mAd M) :=
  m_met [.ref (mO M), .int x1, .int x2] (by decide) rfl (Nat.le_of_ble_eq_true rfl) hc (fun K hl hR hr C B hQ => w_readNamed_E _ C B hr hR hQ _ _ _ hf)
theorem mc_readNamed {K : KT} {M : MT} {cc : ByteArray} {nL pc dk : Nat} {L : List (Nat × Value)} {rest : List Value} {σ : MS} {v : (Int32 × MS)} {n : Nat} {x1 : Int32} {x2 : Int32} (C : Kok K cc nL RX10) (B : MB K M) (dK : kR K = rmD dk) (hd : 4 + 1 ≤ dk) (hf : f_readNamed n x1 x2 σ = some v) (hW : (rest.map fun v => v.category).sum ≤ 8) (dd : decode cc pc = .ok (.invokevirtual 441, 3)) (kk2 : XJ K nL (Wm K M v.2) (pc + 3) L ((.int v.1) :: rest)) : XJ K nL (Wm K M σ) pc L (.int x2 :: .int x1 :: .ref (mO M) :: rest) :=
  m_callV (rest := rest) (v := (some (.int v.1))) [.int x1, .int x2] 2 rfl C B dK hd (Nat.le_of_ble_eq_true rfl) (lw_V q2441 q2443 qs108 q133 q2444) (by decide +kernel) (met_readNamed B.2 hf) rfl hW dd kk2
def f_readDoes_107 (n : Nat) (x1 : Int32) (x2 : Int32) (y0 : Int32) (σ : MS) : Option (Int32 × MS) := if y0 = 0 then (some ((0 : Int32), σ)) else (if inb (x1 + (2 : Int32)) 160 = true then ev (sa σ 52 (Int32.toNatClampNeg (x1 + (2 : Int32))) (gi σ 13)) fun s3 => if x2 = (10 : Int32) then ((f_readNumber n (1 : Int32) (99 : Int32) s3).bind fun r5 => if r5.1 = 0 then (some ((0 : Int32), r5.2)) else (if inb (x1 + (3 : Int32)) 160 = true then ev (sa r5.2 52 (Int32.toNatClampNeg (x1 + (3 : Int32))) (gi r5.2 13)) fun s8 => some ((1 : Int32), s8) else none)) else (some ((1 : Int32), s3)) else none)
set_option maxHeartbeats 4000000 in
theorem w_readDoes_107 {K : KT} {M : MT} {r : Int32} {τ : MS} (n : Nat) (C : Kok K cX10_readDoes 4 RX10) (B : MB K M) (hr : (kMe K).sig.returnType = some .boolean) (dK : kR K = rmD 5) (hQ : KQm K M (some (.int r)) τ) (x1 : Int32) (x2 : Int32) (y0 : Int32) (σ : MS) (hf : f_readDoes_107 n x1 x2 y0 σ = some (r, τ)) : XJ K 4 (Wm K M σ) 107 [(0, .ref (mO M)), (1, .int x1), (2, .int x2)] [.int y0] := by
  unfold f_readDoes_107 at hf
  refine x_istore_n (L' := [(0, .ref (mO M)), (1, .int x1), (2, .int x2), (3, .int y0)]) C dX10_readDoes_107 (Nat.le_of_ble_eq_true rfl) [1, 2, 3, 0] rfl ?_
  refine x_iload_n C dX10_readDoes_108 3 rfl ?_
  refine x_if_ne (tgt := 114) C dX10_readDoes_109 (by decide) (fun c1 => ?_) (fun c1 => ?_)
  · have hf := pf_f c1 hf
    refine x_aload_n C dX10_readDoes_114 0 rfl ?_
    refine mg_52 C B dX10_readDoes_115 ?_
    refine x_iload_n C dX10_readDoes_118 1 rfl ?_
    refine x_iconst (2 : Int32) C dX10_readDoes_119 (by decide) ?_
    refine x_iadd C dX10_readDoes_120 ?_
    refine x_aload_n C dX10_readDoes_121 0 rfl ?_
    refine mg_13 C B dX10_readDoes_122 ?_
    obtain ⟨h2, hf⟩ := pf_in hf
    refine ms_52 C B h2 dX10_readDoes_125 ?_
    obtain ⟨s3, es3, hf⟩ := pf_e hf
    refine m_ren es3 ?_
    refine x_iload_n C dX10_readDoes_126 2 rfl ?_
    refine x_bipush (10 : Int32) C dX10_readDoes_127 (by decide) ?_
    refine x_icmp_eq (tgt := 134) C dX10_readDoes_129 (by decide) (fun c4 => ?_) (fun c4 => ?_)
    · have hf := pf_t c4 hf
      refine x_aload_n C dX10_readDoes_134 0 rfl ?_
      refine x_iconst (1 : Int32) C dX10_readDoes_135 (by decide) ?_
      refine x_bipush (99 : Int32) C dX10_readDoes_136 (by decide) ?_
      obtain ⟨r5, er5, hf⟩ := pf_b hf
      refine mc_readNumber C B dK (Nat.le_of_ble_eq_true rfl) er5 (Nat.le_of_ble_eq_true rfl) dX10_readDoes_138 ?_
      refine x_if_ne (tgt := 146) C dX10_readDoes_141 (by decide) (fun c6 => ?_) (fun c6 => ?_)
      · have hf := pf_f c6 hf
        refine x_aload_n C dX10_readDoes_146 0 rfl ?_
        refine mg_52 C B dX10_readDoes_147 ?_
        refine x_iload_n C dX10_readDoes_150 1 rfl ?_
        refine x_iconst (3 : Int32) C dX10_readDoes_151 (by decide) ?_
        refine x_iadd C dX10_readDoes_152 ?_
        refine x_aload_n C dX10_readDoes_153 0 rfl ?_
        refine mg_13 C B dX10_readDoes_154 ?_
        obtain ⟨h7, hf⟩ := pf_in hf
        refine ms_52 C B h7 dX10_readDoes_157 ?_
        obtain ⟨s8, es8, hf⟩ := pf_e hf
        refine m_ren es8 ?_
        refine x_iconst (1 : Int32) C dX10_readDoes_158 (by decide) ?_
        obtain ⟨rfl, rfl⟩ := Prod.mk.inj (Option.some.inj hf)
        exact m_zret C hr (Or.inr rfl) hQ dX10_readDoes_159
      · have hf := pf_t c6 hf
        refine x_iconst (0 : Int32) C dX10_readDoes_144 (by decide) ?_
        obtain ⟨rfl, rfl⟩ := Prod.mk.inj (Option.some.inj hf)
        exact m_zret C hr (Or.inl rfl) hQ dX10_readDoes_145
    · have hf := pf_f c4 hf
      refine x_iconst (1 : Int32) C dX10_readDoes_132 (by decide) ?_
      obtain ⟨rfl, rfl⟩ := Prod.mk.inj (Option.some.inj hf)
      exact m_zret C hr (Or.inr rfl) hQ dX10_readDoes_133
  · have hf := pf_t c1 hf
    refine x_iconst (0 : Int32) C dX10_readDoes_112 (by decide) ?_
    obtain ⟨rfl, rfl⟩ := Prod.mk.inj (Option.some.inj hf)
    exact m_zret C hr (Or.inl rfl) hQ dX10_readDoes_113
theorem bz_readDoes_107 {r : Int32} {τ : MS} {n : Nat} {x1 : Int32} {x2 : Int32} {y0 : Int32} {σ : MS} (hf : f_readDoes_107 n x1 x2 y0 σ = some (r, τ)) : r = 0 ∨ r = 1 := by
  unfold f_readDoes_107 at hf
  by_cases c1 : y0 = 0
  · have hf := pf_t c1 hf
    obtain ⟨rfl, rfl⟩ := Prod.mk.inj (Option.some.inj hf)
    exact (Or.inl rfl)
  · have hf := pf_f c1 hf
    obtain ⟨h2, hf⟩ := pf_in hf
    obtain ⟨s3, es3, hf⟩ := pf_e hf
    by_cases c4 : x2 = (10 : Int32)
    · have hf := pf_t c4 hf
      obtain ⟨r5, er5, hf⟩ := pf_b hf
      by_cases c6 : r5.1 = 0
      · have hf := pf_t c6 hf
        obtain ⟨rfl, rfl⟩ := Prod.mk.inj (Option.some.inj hf)
        exact (Or.inl rfl)
      · have hf := pf_f c6 hf
        obtain ⟨h7, hf⟩ := pf_in hf
        obtain ⟨s8, es8, hf⟩ := pf_e hf
        obtain ⟨rfl, rfl⟩ := Prod.mk.inj (Option.some.inj hf)
        exact (Or.inr rfl)
    · have hf := pf_f c4 hf
      obtain ⟨rfl, rfl⟩ := Prod.mk.inj (Option.some.inj hf)
      exact (Or.inr rfl)
def f_readDoes_23 (n : Nat) (x1 : Int32) (x2 : Int32) (σ : MS) : Option (Int32 × MS) := if x2 ≤ (10 : Int32) then (if inb x1 160 = true then ev (sa σ 52 (Int32.toNatClampNeg x1) x2) fun s3 => (f_go n s3).bind fun r4 => if x2 = (8 : Int32) then (some ((1 : Int32), r4)) else (if x2 = (7 : Int32) then ((f_readNamed n (0 : Int32) (ga r4 14 0) r4).bind fun r10 => f_readDoes_107 n x1 x2 r10.1 r10.2) else (if x2 = (9 : Int32) then ((f_readNamed n (8 : Int32) (ga r4 14 2) r4).bind fun r9 => f_readDoes_107 n x1 x2 r9.1 r9.2) else ((f_readNamed n (13 : Int32) (ga r4 14 3) r4).bind fun r8 => f_readDoes_107 n x1 x2 r8.1 r8.2))) else none) else (ev (f_bad (1 : Int32) σ) fun r11 => some (r11.1, r11.2))
set_option maxHeartbeats 4000000 in
theorem w_readDoes_23 {K : KT} {M : MT} {r : Int32} {τ : MS} (n : Nat) (C : Kok K cX10_readDoes 4 RX10) (B : MB K M) (hr : (kMe K).sig.returnType = some .boolean) (dK : kR K = rmD 5) (hQ : KQm K M (some (.int r)) τ) (x1 : Int32) (x2 : Int32) (σ : MS) (hf : f_readDoes_23 n x1 x2 σ = some (r, τ)) : XJ K 4 (Wm K M σ) 23 [(0, .ref (mO M)), (1, .int x1), (2, .int x2)] [] := by
  unfold f_readDoes_23 at hf
  refine x_iload_n C dX10_readDoes_23 2 rfl ?_
  refine x_bipush (10 : Int32) C dX10_readDoes_24 (by decide) ?_
  refine x_icmp_le (tgt := 35) C dX10_readDoes_26 (by decide) (fun c1 => ?_) (fun c1 => ?_)
  · have hf := pf_t c1 hf
    refine x_aload_n C dX10_readDoes_35 0 rfl ?_
    refine mg_52 C B dX10_readDoes_36 ?_
    refine x_iload_n C dX10_readDoes_39 1 rfl ?_
    refine x_iload_n C dX10_readDoes_40 2 rfl ?_
    obtain ⟨h2, hf⟩ := pf_in hf
    refine ms_52 C B h2 dX10_readDoes_41 ?_
    obtain ⟨s3, es3, hf⟩ := pf_e hf
    refine m_ren es3 ?_
    refine x_aload_n C dX10_readDoes_42 0 rfl ?_
    obtain ⟨r4, er4, hf⟩ := pf_b hf
    refine mc_go C B dK (Nat.le_of_ble_eq_true rfl) er4 (Nat.le_of_ble_eq_true rfl) dX10_readDoes_43 ?_
    refine x_iload_n C dX10_readDoes_46 2 rfl ?_
    refine x_bipush (8 : Int32) C dX10_readDoes_47 (by decide) ?_
    refine x_icmp_ne (tgt := 54) C dX10_readDoes_49 (by decide) (fun c5 => ?_) (fun c5 => ?_)
    · have hf := pf_f c5 hf
      refine x_iload_n C dX10_readDoes_54 2 rfl ?_
      refine x_bipush (7 : Int32) C dX10_readDoes_55 (by decide) ?_
      refine x_icmp_ne (tgt := 74) C dX10_readDoes_57 (by decide) (fun c6 => ?_) (fun c6 => ?_)
      · have hf := pf_f c6 hf
        refine x_iload_n C dX10_readDoes_74 2 rfl ?_
        refine x_bipush (9 : Int32) C dX10_readDoes_75 (by decide) ?_
        refine x_icmp_ne (tgt := 95) C dX10_readDoes_77 (by decide) (fun c7 => ?_) (fun c7 => ?_)
        · have hf := pf_f c7 hf
          refine x_aload_n C dX10_readDoes_95 0 rfl ?_
          refine x_bipush (13 : Int32) C dX10_readDoes_96 (by decide) ?_
          refine x_aload_n C dX10_readDoes_98 0 rfl ?_
          refine mg_14 C B dX10_readDoes_99 ?_
          refine x_iconst (3 : Int32) C dX10_readDoes_102 (by decide) ?_
          refine mlc_14 3 C B (by decide +kernel) dX10_readDoes_103 ?_
          obtain ⟨r8, er8, hf⟩ := pf_b hf
          refine mc_readNamed C B dK (Nat.le_of_ble_eq_true rfl) er8 (Nat.le_of_ble_eq_true rfl) dX10_readDoes_104 ?_
          exact w_readDoes_107 n C B hr dK hQ x1 x2 r8.1 _ hf
        · have hf := pf_t c7 hf
          refine x_aload_n C dX10_readDoes_80 0 rfl ?_
          refine x_bipush (8 : Int32) C dX10_readDoes_81 (by decide) ?_
          refine x_aload_n C dX10_readDoes_83 0 rfl ?_
          refine mg_14 C B dX10_readDoes_84 ?_
          refine x_iconst (2 : Int32) C dX10_readDoes_87 (by decide) ?_
          refine mlc_14 2 C B (by decide +kernel) dX10_readDoes_88 ?_
          obtain ⟨r9, er9, hf⟩ := pf_b hf
          refine mc_readNamed C B dK (Nat.le_of_ble_eq_true rfl) er9 (Nat.le_of_ble_eq_true rfl) dX10_readDoes_89 ?_
          refine x_goto (tgt := 107) C dX10_readDoes_92 (by decide) ?_
          exact w_readDoes_107 n C B hr dK hQ x1 x2 r9.1 _ hf
      · have hf := pf_t c6 hf
        refine x_aload_n C dX10_readDoes_60 0 rfl ?_
        refine x_iconst (0 : Int32) C dX10_readDoes_61 (by decide) ?_
        refine x_aload_n C dX10_readDoes_62 0 rfl ?_
        refine mg_14 C B dX10_readDoes_63 ?_
        refine x_iconst (0 : Int32) C dX10_readDoes_66 (by decide) ?_
        refine mlc_14 0 C B (by decide +kernel) dX10_readDoes_67 ?_
        obtain ⟨r10, er10, hf⟩ := pf_b hf
        refine mc_readNamed C B dK (Nat.le_of_ble_eq_true rfl) er10 (Nat.le_of_ble_eq_true rfl) dX10_readDoes_68 ?_
        refine x_goto (tgt := 107) C dX10_readDoes_71 (by decide) ?_
        exact w_readDoes_107 n C B hr dK hQ x1 x2 r10.1 _ hf
    · have hf := pf_t c5 hf
      refine x_iconst (1 : Int32) C dX10_readDoes_52 (by decide) ?_
      obtain ⟨rfl, rfl⟩ := Prod.mk.inj (Option.some.inj hf)
      exact m_zret C hr (Or.inr rfl) hQ dX10_readDoes_53
  · have hf := pf_f c1 hf
    refine x_aload_n C dX10_readDoes_29 0 rfl ?_
    refine x_iconst (1 : Int32) C dX10_readDoes_30 (by decide) ?_
    obtain ⟨r11, er11, hf⟩ := pf_e hf
    refine mc_bad C B dK (Nat.le_of_ble_eq_true rfl) er11.symm (Nat.le_of_ble_eq_true rfl) dX10_readDoes_31 ?_
    obtain ⟨rfl, rfl⟩ := Prod.mk.inj (Option.some.inj hf)
    exact m_zret C hr (bz_bad_E er11.symm) hQ dX10_readDoes_34
theorem bz_readDoes_23 {r : Int32} {τ : MS} {n : Nat} {x1 : Int32} {x2 : Int32} {σ : MS} (hf : f_readDoes_23 n x1 x2 σ = some (r, τ)) : r = 0 ∨ r = 1 := by
  unfold f_readDoes_23 at hf
  by_cases c1 : x2 ≤ (10 : Int32)
  · have hf := pf_t c1 hf
    obtain ⟨h2, hf⟩ := pf_in hf
    obtain ⟨s3, es3, hf⟩ := pf_e hf
    obtain ⟨r4, er4, hf⟩ := pf_b hf
    by_cases c5 : x2 = (8 : Int32)
    · have hf := pf_t c5 hf
      obtain ⟨rfl, rfl⟩ := Prod.mk.inj (Option.some.inj hf)
      exact (Or.inr rfl)
    · have hf := pf_f c5 hf
      by_cases c6 : x2 = (7 : Int32)
      · have hf := pf_t c6 hf
        obtain ⟨r10, er10, hf⟩ := pf_b hf
        exact bz_readDoes_107 hf
      · have hf := pf_f c6 hf
        by_cases c7 : x2 = (9 : Int32)
        · have hf := pf_t c7 hf
          obtain ⟨r9, er9, hf⟩ := pf_b hf
          exact bz_readDoes_107 hf
        · have hf := pf_f c7 hf
          obtain ⟨r8, er8, hf⟩ := pf_b hf
          exact bz_readDoes_107 hf
  · have hf := pf_f c1 hf
    obtain ⟨r11, er11, hf⟩ := pf_e hf
    obtain ⟨rfl, rfl⟩ := Prod.mk.inj (Option.some.inj hf)
    exact (bz_bad_E er11.symm)
def f_readDoes_3 (n : Nat) : Nat → Int32 → Int32 → MS → Option (Int32 × MS)
  | 0, _, _, _ => none
  | m + 1, x1, x2, σ => if (10 : Int32) < x2 then (f_readDoes_23 n x1 x2 σ) else (if (f_isWord σ x2) = 0 then (f_readDoes_3 n m x1 (x2 + (1 : Int32)) σ) else (f_readDoes_23 n x1 x2 σ))
set_option maxHeartbeats 4000000 in
theorem w_readDoes_3 {K : KT} {M : MT} {r : Int32} {τ : MS} (n : Nat) (C : Kok K cX10_readDoes 4 RX10) (B : MB K M) (hr : (kMe K).sig.returnType = some .boolean) (dK : kR K = rmD 5) (hQ : KQm K M (some (.int r)) τ) : ∀ (m : Nat) (x1 : Int32) (x2 : Int32) (σ : MS) (hf : f_readDoes_3 n m x1 x2 σ = some (r, τ)), XJ K 4 (Wm K M σ) 3 [(0, .ref (mO M)), (1, .int x1), (2, .int x2)] [] := by
  intro m
  induction m with
  | zero => intro x1 x2 σ hf; cases hf
  | succ m ih =>
    intro x1 x2 σ hf
    rw [f_readDoes_3] at hf
    refine x_iload_n C dX10_readDoes_3 2 rfl ?_
    refine x_bipush (10 : Int32) C dX10_readDoes_4 (by decide) ?_
    refine x_icmp_gt (tgt := 23) C dX10_readDoes_6 (by decide) (fun c1 => ?_) (fun c1 => ?_)
    · have hf := pf_t c1 hf
      exact w_readDoes_23 n C B hr dK hQ x1 x2 _ hf
    · have hf := pf_f c1 hf
      refine x_aload_n C dX10_readDoes_9 0 rfl ?_
      refine x_iload_n C dX10_readDoes_10 2 rfl ?_
      refine mc_isWord C B dK (Nat.le_of_ble_eq_true rfl) rfl (Nat.le_of_ble_eq_true rfl) dX10_readDoes_11 ?_
      refine x_if_ne (tgt := 23) C dX10_readDoes_14 (by decide) (fun c2 => ?_) (fun c2 => ?_)
      · have hf := pf_f c2 hf
        exact w_readDoes_23 n C B hr dK hQ x1 x2 _ hf
      · have hf := pf_t c2 hf
        refine x_inc (c := (1 : Int32)) (L' := [(0, .ref (mO M)), (1, .int x1), (2, .int (x2 + (1 : Int32)))]) C dX10_readDoes_17 2 rfl (by decide) (Nat.le_of_ble_eq_true rfl) [1, 2, 0] rfl ?_
        refine x_goto (tgt := 3) C dX10_readDoes_20 (by decide) ?_
        exact ih x1 (x2 + (1 : Int32)) _ hf
theorem bz_readDoes_3 {r : Int32} {τ : MS} {n : Nat} : ∀ (m : Nat) (x1 : Int32) (x2 : Int32) (σ : MS) (hf : f_readDoes_3 n m x1 x2 σ = some (r, τ)), r = 0 ∨ r = 1 := by
  intro m
  induction m with
  | zero => intro x1 x2 σ hf; cases hf
  | succ m ih =>
    intro x1 x2 σ hf
    rw [f_readDoes_3] at hf
    by_cases c1 : (10 : Int32) < x2
    · have hf := pf_t c1 hf
      exact bz_readDoes_23 hf
    · have hf := pf_f c1 hf
      by_cases c2 : (f_isWord σ x2) = 0
      · have hf := pf_t c2 hf
        exact ih x1 (x2 + (1 : Int32)) _ hf
      · have hf := pf_f c2 hf
        exact bz_readDoes_23 hf
def f_readDoes (n : Nat) (x1 : Int32) (σ : MS) : Option (Int32 × MS) := f_readDoes_3 n n x1 (7 : Int32) σ
set_option maxHeartbeats 4000000 in
theorem w_readDoes_E {K : KT} {M : MT} {r : Int32} {τ : MS} (n : Nat) (C : Kok K cX10_readDoes 4 RX10) (B : MB K M) (hr : (kMe K).sig.returnType = some .boolean) (dK : kR K = rmD 5) (hQ : KQm K M (some (.int r)) τ) (x1 : Int32) (σ : MS) (hf : f_readDoes n x1 σ = some (r, τ)) : XJ K 4 (Wm K M σ) 0 [(0, .ref (mO M)), (1, .int x1)] [] := by
  unfold f_readDoes at hf
  refine x_bipush (7 : Int32) C dX10_readDoes_0 (by decide) ?_
  refine x_istore_n (L' := [(0, .ref (mO M)), (1, .int x1), (2, .int (7 : Int32))]) C dX10_readDoes_2 (Nat.le_of_ble_eq_true rfl) [1, 2, 0] rfl ?_
  exact w_readDoes_3 n C B hr dK hQ n x1 (7 : Int32) _ hf
theorem bz_readDoes_E {r : Int32} {τ : MS} {n : Nat} {x1 : Int32} {σ : MS} (hf : f_readDoes n x1 σ = some (r, τ)) : r = 0 ∨ r = 1 := by
  unfold f_readDoes at hf
  exact bz_readDoes_3 n x1 (7 : Int32) _ hf
theorem met_readDoes {M : MT} {v : (Int32 × MS)} {n : Nat} {σ : MS} {x1 : Int32} {l : Launch} (hc : (mCl M)[mCi M]? = some (RX10, TX10, 61)) (hf : f_readDoes n x1 σ = some v) : Met l yX10_readDoes (ws_ yX10_readDoes cX10_readDoes 4 (some .boolean)) (rmD 5) (va_Pc [.ref (mO M), .int x1] (MU M σ)) (Qm M (some (.int v.1)) v.2) 0 0 (mAd M) :=
  m_met [.ref (mO M), .int x1] (by decide) rfl (Nat.le_of_ble_eq_true rfl) hc (fun K hl hR hr C B hQ => w_readDoes_E _ C B hr hR hQ _ _ hf)
theorem mc_readDoes {K : KT} {M : MT} {cc : ByteArray} {nL pc dk : Nat} {L : List (Nat × Value)} {rest : List Value} {σ : MS} {v : (Int32 × MS)} {n : Nat} {x1 : Int32} (C : Kok K cc nL RX10) (B : MB K M) (dK : kR K = rmD dk) (hd : 5 + 1 ≤ dk) (hf : f_readDoes n x1 σ = some v) (hW : (rest.map fun v => v.category).sum ≤ 8) (dd : decode cc pc = .ok (.invokevirtual 447, 3)) (kk2 : XJ K nL (Wm K M v.2) (pc + 3) L ((.int v.1) :: rest)) : XJ K nL (Wm K M σ) pc L (.int x1 :: .ref (mO M) :: rest) :=
  m_callV (rest := rest) (v := (some (.int v.1))) [.int x1] 1 rfl C B dK hd (Nat.le_of_ble_eq_true rfl) (lw_V q2437 q2439 qs107 q133 q2440) (by decide +kernel) (met_readDoes B.2 hf) rfl hW dd kk2
def f_readLogLine_67 (n : Nat) (x1 : Int32) (x2 : Int32) (σ : MS) : Option (Int32 × MS) := if (gi σ 54) = (40 : Int32) then (ev (f_bad (4 : Int32) σ) fun r18 => some (r18.1, r18.2)) else ((f_go n σ).bind fun r2 => ev ((4 : Int32) * (gi r2 54)) fun v3 => if inb (v3 + (1 : Int32)) 160 = true then ev (sa r2 52 (Int32.toNatClampNeg (v3 + (1 : Int32))) x2) fun s5 => if x1 = 0 then ((f_readDoes n v3 s5).bind fun r14 => if r14.1 = 0 then (some ((0 : Int32), r14.2)) else ((f_readEnd n r14.2).bind fun r16 => if r16.1 = 0 then (some ((0 : Int32), r16.2)) else (some ((1 : Int32), r16.2)))) else (if inb v3 160 = true then ev (sa s5 52 (Int32.toNatClampNeg v3) (11 : Int32)) fun s8 => (f_readNumber n (1 : Int32) (60 : Int32) s8).bind fun r9 => if r9.1 = 0 then (some ((0 : Int32), r9.2)) else (if inb (v3 + (2 : Int32)) 160 = true then ev (sa r9.2 52 (Int32.toNatClampNeg (v3 + (2 : Int32))) (gi r9.2 13)) fun s12 => (f_readEnd n s12).bind fun r13 => some (r13.1, r13.2) else none) else none) else none)
set_option maxHeartbeats 4000000 in
theorem w_readLogLine_67 {K : KT} {M : MT} {r : Int32} {τ : MS} (n : Nat) (C : Kok K cX10_readLogLine 4 RX10) (B : MB K M) (hr : (kMe K).sig.returnType = some .boolean) (dK : kR K = rmD 6) (hQ : KQm K M (some (.int r)) τ) (x1 : Int32) (x2 : Int32) (σ : MS) (hf : f_readLogLine_67 n x1 x2 σ = some (r, τ)) : XJ K 4 (Wm K M σ) 67 [(0, .ref (mO M)), (1, .int x1), (2, .int x2)] [] := by
  unfold f_readLogLine_67 at hf
  refine x_aload_n C dX10_readLogLine_67 0 rfl ?_
  refine mg_54 C B dX10_readLogLine_68 ?_
  refine x_bipush (40 : Int32) C dX10_readLogLine_71 (by decide) ?_
  refine x_icmp_ne (tgt := 82) C dX10_readLogLine_73 (by decide) (fun c1 => ?_) (fun c1 => ?_)
  · have hf := pf_f c1 hf
    refine x_aload_n C dX10_readLogLine_82 0 rfl ?_
    obtain ⟨r2, er2, hf⟩ := pf_b hf
    refine mc_go C B dK (Nat.le_of_ble_eq_true rfl) er2 (Nat.le_of_ble_eq_true rfl) dX10_readLogLine_83 ?_
    refine x_iconst (4 : Int32) C dX10_readLogLine_86 (by decide) ?_
    refine x_aload_n C dX10_readLogLine_87 0 rfl ?_
    refine mg_54 C B dX10_readLogLine_88 ?_
    refine x_imul C dX10_readLogLine_91 ?_
    obtain ⟨v3, ev3, hf⟩ := pf_e hf
    refine x_topir ev3 ?_
    refine x_istore_n (L' := [(0, .ref (mO M)), (1, .int x1), (2, .int x2), (3, .int v3)]) C dX10_readLogLine_92 (Nat.le_of_ble_eq_true rfl) [1, 2, 3, 0] rfl ?_
    refine x_aload_n C dX10_readLogLine_93 0 rfl ?_
    refine mg_52 C B dX10_readLogLine_94 ?_
    refine x_iload_n C dX10_readLogLine_97 3 rfl ?_
    refine x_iconst (1 : Int32) C dX10_readLogLine_98 (by decide) ?_
    refine x_iadd C dX10_readLogLine_99 ?_
    refine x_iload_n C dX10_readLogLine_100 2 rfl ?_
    obtain ⟨h4, hf⟩ := pf_in hf
    refine ms_52 C B h4 dX10_readLogLine_101 ?_
    obtain ⟨s5, es5, hf⟩ := pf_e hf
    refine m_ren es5 ?_
    refine x_iload_n C dX10_readLogLine_102 1 rfl ?_
    refine x_if_ne (tgt := 127) C dX10_readLogLine_103 (by decide) (fun c6 => ?_) (fun c6 => ?_)
    · have hf := pf_f c6 hf
      refine x_aload_n C dX10_readLogLine_127 0 rfl ?_
      refine mg_52 C B dX10_readLogLine_128 ?_
      refine x_iload_n C dX10_readLogLine_131 3 rfl ?_
      refine x_bipush (11 : Int32) C dX10_readLogLine_132 (by decide) ?_
      obtain ⟨h7, hf⟩ := pf_in hf
      refine ms_52 C B h7 dX10_readLogLine_134 ?_
      obtain ⟨s8, es8, hf⟩ := pf_e hf
      refine m_ren es8 ?_
      refine x_aload_n C dX10_readLogLine_135 0 rfl ?_
      refine x_iconst (1 : Int32) C dX10_readLogLine_136 (by decide) ?_
      refine x_bipush (60 : Int32) C dX10_readLogLine_137 (by decide) ?_
      obtain ⟨r9, er9, hf⟩ := pf_b hf
      refine mc_readNumber C B dK (Nat.le_of_ble_eq_true rfl) er9 (Nat.le_of_ble_eq_true rfl) dX10_readLogLine_139 ?_
      refine x_if_ne (tgt := 147) C dX10_readLogLine_142 (by decide) (fun c10 => ?_) (fun c10 => ?_)
      · have hf := pf_f c10 hf
        refine x_aload_n C dX10_readLogLine_147 0 rfl ?_
        refine mg_52 C B dX10_readLogLine_148 ?_
        refine x_iload_n C dX10_readLogLine_151 3 rfl ?_
        refine x_iconst (2 : Int32) C dX10_readLogLine_152 (by decide) ?_
        refine x_iadd C dX10_readLogLine_153 ?_
        refine x_aload_n C dX10_readLogLine_154 0 rfl ?_
        refine mg_13 C B dX10_readLogLine_155 ?_
        obtain ⟨h11, hf⟩ := pf_in hf
        refine ms_52 C B h11 dX10_readLogLine_158 ?_
        obtain ⟨s12, es12, hf⟩ := pf_e hf
        refine m_ren es12 ?_
        refine x_aload_n C dX10_readLogLine_159 0 rfl ?_
        obtain ⟨r13, er13, hf⟩ := pf_b hf
        refine mc_readEnd C B dK (Nat.le_of_ble_eq_true rfl) er13 (Nat.le_of_ble_eq_true rfl) dX10_readLogLine_160 ?_
        obtain ⟨rfl, rfl⟩ := Prod.mk.inj (Option.some.inj hf)
        exact m_zret C hr (bz_readEnd_E er13) hQ dX10_readLogLine_163
      · have hf := pf_t c10 hf
        refine x_iconst (0 : Int32) C dX10_readLogLine_145 (by decide) ?_
        obtain ⟨rfl, rfl⟩ := Prod.mk.inj (Option.some.inj hf)
        exact m_zret C hr (Or.inl rfl) hQ dX10_readLogLine_146
    · have hf := pf_t c6 hf
      refine x_aload_n C dX10_readLogLine_106 0 rfl ?_
      refine x_iload_n C dX10_readLogLine_107 3 rfl ?_
      obtain ⟨r14, er14, hf⟩ := pf_b hf
      refine mc_readDoes C B dK (Nat.le_of_ble_eq_true rfl) er14 (Nat.le_of_ble_eq_true rfl) dX10_readLogLine_108 ?_
      refine x_if_eq (tgt := 125) C dX10_readLogLine_111 (by decide) (fun c15 => ?_) (fun c15 => ?_)
      · have hf := pf_t c15 hf
        refine x_iconst (0 : Int32) C dX10_readLogLine_125 (by decide) ?_
        obtain ⟨rfl, rfl⟩ := Prod.mk.inj (Option.some.inj hf)
        exact m_zret C hr (Or.inl rfl) hQ dX10_readLogLine_126
      · have hf := pf_f c15 hf
        refine x_aload_n C dX10_readLogLine_114 0 rfl ?_
        obtain ⟨r16, er16, hf⟩ := pf_b hf
        refine mc_readEnd C B dK (Nat.le_of_ble_eq_true rfl) er16 (Nat.le_of_ble_eq_true rfl) dX10_readLogLine_115 ?_
        refine x_if_eq (tgt := 125) C dX10_readLogLine_118 (by decide) (fun c17 => ?_) (fun c17 => ?_)
        · have hf := pf_t c17 hf
          refine x_iconst (0 : Int32) C dX10_readLogLine_125 (by decide) ?_
          obtain ⟨rfl, rfl⟩ := Prod.mk.inj (Option.some.inj hf)
          exact m_zret C hr (Or.inl rfl) hQ dX10_readLogLine_126
        · have hf := pf_f c17 hf
          refine x_iconst (1 : Int32) C dX10_readLogLine_121 (by decide) ?_
          refine x_goto (tgt := 126) C dX10_readLogLine_122 (by decide) ?_
          obtain ⟨rfl, rfl⟩ := Prod.mk.inj (Option.some.inj hf)
          exact m_zret C hr (Or.inr rfl) hQ dX10_readLogLine_126
  · have hf := pf_t c1 hf
    refine x_aload_n C dX10_readLogLine_76 0 rfl ?_
    refine x_iconst (4 : Int32) C dX10_readLogLine_77 (by decide) ?_
    obtain ⟨r18, er18, hf⟩ := pf_e hf
    refine mc_bad C B dK (Nat.le_of_ble_eq_true rfl) er18.symm (Nat.le_of_ble_eq_true rfl) dX10_readLogLine_78 ?_
    obtain ⟨rfl, rfl⟩ := Prod.mk.inj (Option.some.inj hf)
    exact m_zret C hr (bz_bad_E er18.symm) hQ dX10_readLogLine_81
theorem bz_readLogLine_67 {r : Int32} {τ : MS} {n : Nat} {x1 : Int32} {x2 : Int32} {σ : MS} (hf : f_readLogLine_67 n x1 x2 σ = some (r, τ)) : r = 0 ∨ r = 1 := by
  unfold f_readLogLine_67 at hf
  by_cases c1 : (gi σ 54) = (40 : Int32)
  · have hf := pf_t c1 hf
    obtain ⟨r18, er18, hf⟩ := pf_e hf
    obtain ⟨rfl, rfl⟩ := Prod.mk.inj (Option.some.inj hf)
    exact (bz_bad_E er18.symm)
  · have hf := pf_f c1 hf
    obtain ⟨r2, er2, hf⟩ := pf_b hf
    obtain ⟨v3, ev3, hf⟩ := pf_e hf
    obtain ⟨h4, hf⟩ := pf_in hf
    obtain ⟨s5, es5, hf⟩ := pf_e hf
    by_cases c6 : x1 = 0
    · have hf := pf_t c6 hf
      obtain ⟨r14, er14, hf⟩ := pf_b hf
      by_cases c15 : r14.1 = 0
      · have hf := pf_t c15 hf
        obtain ⟨rfl, rfl⟩ := Prod.mk.inj (Option.some.inj hf)
        exact (Or.inl rfl)
      · have hf := pf_f c15 hf
        obtain ⟨r16, er16, hf⟩ := pf_b hf
        by_cases c17 : r16.1 = 0
        · have hf := pf_t c17 hf
          obtain ⟨rfl, rfl⟩ := Prod.mk.inj (Option.some.inj hf)
          exact (Or.inl rfl)
        · have hf := pf_f c17 hf
          obtain ⟨rfl, rfl⟩ := Prod.mk.inj (Option.some.inj hf)
          exact (Or.inr rfl)
    · have hf := pf_f c6 hf
      obtain ⟨h7, hf⟩ := pf_in hf
      obtain ⟨s8, es8, hf⟩ := pf_e hf
      obtain ⟨r9, er9, hf⟩ := pf_b hf
      by_cases c10 : r9.1 = 0
      · have hf := pf_t c10 hf
        obtain ⟨rfl, rfl⟩ := Prod.mk.inj (Option.some.inj hf)
        exact (Or.inl rfl)
      · have hf := pf_f c10 hf
        obtain ⟨h11, hf⟩ := pf_in hf
        obtain ⟨s12, es12, hf⟩ := pf_e hf
        obtain ⟨r13, er13, hf⟩ := pf_b hf
        obtain ⟨rfl, rfl⟩ := Prod.mk.inj (Option.some.inj hf)
        exact (bz_readEnd_E er13)
def f_readLogLine_24 (n : Nat) (x1 : Int32) (σ : MS) : Option (Int32 × MS) := if x1 = 0 then ((f_findIn n σ 19 (13 : Int32) (ga σ 14 3) (gl σ 12)).bind fun r2 => if x1 = 0 then (if r2 = (-1 : Int32) then (ev (f_bad (3 : Int32) σ) fun r5 => some (r5.1, r5.2)) else (f_readLogLine_67 n x1 r2 σ)) else (f_readLogLine_67 n x1 r2 σ)) else (if x1 = 0 then (if (-1 : Int32) = (-1 : Int32) then (ev (f_bad (3 : Int32) σ) fun r8 => some (r8.1, r8.2)) else (f_readLogLine_67 n x1 (-1 : Int32) σ)) else (f_readLogLine_67 n x1 (-1 : Int32) σ))
set_option maxHeartbeats 4000000 in
theorem w_readLogLine_24 {K : KT} {M : MT} {r : Int32} {τ : MS} (n : Nat) (C : Kok K cX10_readLogLine 4 RX10) (B : MB K M) (hr : (kMe K).sig.returnType = some .boolean) (dK : kR K = rmD 6) (hQ : KQm K M (some (.int r)) τ) (x1 : Int32) (σ : MS) (hf : f_readLogLine_24 n x1 σ = some (r, τ)) : XJ K 4 (Wm K M σ) 24 [(0, .ref (mO M)), (1, .int x1)] [] := by
  unfold f_readLogLine_24 at hf
  refine x_iload_n C dX10_readLogLine_24 1 rfl ?_
  refine x_if_eq (tgt := 32) C dX10_readLogLine_25 (by decide) (fun c1 => ?_) (fun c1 => ?_)
  · have hf := pf_t c1 hf
    refine x_aload_n C dX10_readLogLine_32 0 rfl ?_
    refine mg_19 C B dX10_readLogLine_33 ?_
    refine x_bipush (13 : Int32) C dX10_readLogLine_36 (by decide) ?_
    refine x_aload_n C dX10_readLogLine_38 0 rfl ?_
    refine mg_14 C B dX10_readLogLine_39 ?_
    refine x_iconst (3 : Int32) C dX10_readLogLine_42 (by decide) ?_
    refine mlc_14 3 C B (by decide +kernel) dX10_readLogLine_43 ?_
    refine x_aload_n C dX10_readLogLine_44 0 rfl ?_
    refine mg_12 C B dX10_readLogLine_45 ?_
    obtain ⟨r2, er2, hf⟩ := pf_b hf
    refine mc_findIn C B dK (Nat.le_of_ble_eq_true rfl) (Or.inl rfl) er2 (Nat.le_of_ble_eq_true rfl) dX10_readLogLine_48 ?_
    refine x_istore_n (L' := [(0, .ref (mO M)), (1, .int x1), (2, .int r2)]) C dX10_readLogLine_51 (Nat.le_of_ble_eq_true rfl) [1, 2, 0] rfl ?_
    refine x_iload_n C dX10_readLogLine_52 1 rfl ?_
    refine x_if_ne (tgt := 67) C dX10_readLogLine_53 (by decide) (fun c3 => ?_) (fun c3 => ?_)
    · have hf := pf_f c3 hf
      exact w_readLogLine_67 n C B hr dK hQ x1 r2 _ hf
    · have hf := pf_t c3 hf
      refine x_iload_n C dX10_readLogLine_56 2 rfl ?_
      refine x_iconst (-1 : Int32) C dX10_readLogLine_57 (by decide) ?_
      refine x_icmp_ne (tgt := 67) C dX10_readLogLine_58 (by decide) (fun c4 => ?_) (fun c4 => ?_)
      · have hf := pf_f c4 hf
        exact w_readLogLine_67 n C B hr dK hQ x1 r2 _ hf
      · have hf := pf_t c4 hf
        refine x_aload_n C dX10_readLogLine_61 0 rfl ?_
        refine x_iconst (3 : Int32) C dX10_readLogLine_62 (by decide) ?_
        obtain ⟨r5, er5, hf⟩ := pf_e hf
        refine mc_bad C B dK (Nat.le_of_ble_eq_true rfl) er5.symm (Nat.le_of_ble_eq_true rfl) dX10_readLogLine_63 ?_
        obtain ⟨rfl, rfl⟩ := Prod.mk.inj (Option.some.inj hf)
        exact m_zret C hr (bz_bad_E er5.symm) hQ dX10_readLogLine_66
  · have hf := pf_f c1 hf
    refine x_iconst (-1 : Int32) C dX10_readLogLine_28 (by decide) ?_
    refine x_goto (tgt := 51) C dX10_readLogLine_29 (by decide) ?_
    refine x_istore_n (L' := [(0, .ref (mO M)), (1, .int x1), (2, .int (-1 : Int32))]) C dX10_readLogLine_51 (Nat.le_of_ble_eq_true rfl) [1, 2, 0] rfl ?_
    refine x_iload_n C dX10_readLogLine_52 1 rfl ?_
    refine x_if_ne (tgt := 67) C dX10_readLogLine_53 (by decide) (fun c6 => ?_) (fun c6 => ?_)
    · have hf := pf_f c6 hf
      exact w_readLogLine_67 n C B hr dK hQ x1 (-1 : Int32) _ hf
    · have hf := pf_t c6 hf
      refine x_iload_n C dX10_readLogLine_56 2 rfl ?_
      refine x_iconst (-1 : Int32) C dX10_readLogLine_57 (by decide) ?_
      refine x_icmp_ne (tgt := 67) C dX10_readLogLine_58 (by decide) (fun c7 => ?_) (fun c7 => ?_)
      · have hf := pf_f c7 hf
        exact w_readLogLine_67 n C B hr dK hQ x1 (-1 : Int32) _ hf
      · have hf := pf_t c7 hf
        refine x_aload_n C dX10_readLogLine_61 0 rfl ?_
        refine x_iconst (3 : Int32) C dX10_readLogLine_62 (by decide) ?_
        obtain ⟨r8, er8, hf⟩ := pf_e hf
        refine mc_bad C B dK (Nat.le_of_ble_eq_true rfl) er8.symm (Nat.le_of_ble_eq_true rfl) dX10_readLogLine_63 ?_
        obtain ⟨rfl, rfl⟩ := Prod.mk.inj (Option.some.inj hf)
        exact m_zret C hr (bz_bad_E er8.symm) hQ dX10_readLogLine_66
theorem bz_readLogLine_24 {r : Int32} {τ : MS} {n : Nat} {x1 : Int32} {σ : MS} (hf : f_readLogLine_24 n x1 σ = some (r, τ)) : r = 0 ∨ r = 1 := by
  unfold f_readLogLine_24 at hf
  by_cases c1 : x1 = 0
  · have hf := pf_t c1 hf
    obtain ⟨r2, er2, hf⟩ := pf_b hf
    by_cases c3 : x1 = 0
    · have hf := pf_t c3 hf
      by_cases c4 : r2 = (-1 : Int32)
      · have hf := pf_t c4 hf
        obtain ⟨r5, er5, hf⟩ := pf_e hf
        obtain ⟨rfl, rfl⟩ := Prod.mk.inj (Option.some.inj hf)
        exact (bz_bad_E er5.symm)
      · have hf := pf_f c4 hf
        exact bz_readLogLine_67 hf
    · have hf := pf_f c3 hf
      exact bz_readLogLine_67 hf
  · have hf := pf_f c1 hf
    by_cases c6 : x1 = 0
    · have hf := pf_t c6 hf
      by_cases c7 : (-1 : Int32) = (-1 : Int32)
      · have hf := pf_t c7 hf
        obtain ⟨r8, er8, hf⟩ := pf_e hf
        obtain ⟨rfl, rfl⟩ := Prod.mk.inj (Option.some.inj hf)
        exact (bz_bad_E er8.symm)
      · have hf := pf_f c7 hf
        exact bz_readLogLine_67 hf
    · have hf := pf_f c6 hf
      exact bz_readLogLine_67 hf
def f_readLogLine (n : Nat) (σ : MS) : Option (Int32 × MS) := ev (f_isWord σ (11 : Int32)) fun v1 => if v1 = 0 then ((f_isName n σ).bind fun r3 => if r3 = 0 then (ev (f_bad (1 : Int32) σ) fun r5 => some (r5.1, r5.2)) else (f_readLogLine_24 n v1 σ)) else (f_readLogLine_24 n v1 σ)
set_option maxHeartbeats 4000000 in
theorem w_readLogLine_E {K : KT} {M : MT} {r : Int32} {τ : MS} (n : Nat) (C : Kok K cX10_readLogLine 4 RX10) (B : MB K M) (hr : (kMe K).sig.returnType = some .boolean) (dK : kR K = rmD 6) (hQ : KQm K M (some (.int r)) τ) (σ : MS) (hf : f_readLogLine n σ = some (r, τ)) : XJ K 4 (Wm K M σ) 0 [(0, .ref (mO M))] [] := by
  unfold f_readLogLine at hf
  refine x_aload_n C dX10_readLogLine_0 0 rfl ?_
  refine x_bipush (11 : Int32) C dX10_readLogLine_1 (by decide) ?_
  refine mc_isWord C B dK (Nat.le_of_ble_eq_true rfl) rfl (Nat.le_of_ble_eq_true rfl) dX10_readLogLine_3 ?_
  obtain ⟨v1, ev1, hf⟩ := pf_e hf
  refine x_topir ev1 ?_
  refine x_istore_n (L' := [(0, .ref (mO M)), (1, .int v1)]) C dX10_readLogLine_6 (Nat.le_of_ble_eq_true rfl) [1, 0] rfl ?_
  refine x_iload_n C dX10_readLogLine_7 1 rfl ?_
  refine x_if_ne (tgt := 24) C dX10_readLogLine_8 (by decide) (fun c2 => ?_) (fun c2 => ?_)
  · have hf := pf_f c2 hf
    exact w_readLogLine_24 n C B hr dK hQ v1 _ hf
  · have hf := pf_t c2 hf
    refine x_aload_n C dX10_readLogLine_11 0 rfl ?_
    obtain ⟨r3, er3, hf⟩ := pf_b hf
    refine mc_isName C B dK (Nat.le_of_ble_eq_true rfl) er3 (Nat.le_of_ble_eq_true rfl) dX10_readLogLine_12 ?_
    refine x_if_ne (tgt := 24) C dX10_readLogLine_15 (by decide) (fun c4 => ?_) (fun c4 => ?_)
    · have hf := pf_f c4 hf
      exact w_readLogLine_24 n C B hr dK hQ v1 _ hf
    · have hf := pf_t c4 hf
      refine x_aload_n C dX10_readLogLine_18 0 rfl ?_
      refine x_iconst (1 : Int32) C dX10_readLogLine_19 (by decide) ?_
      obtain ⟨r5, er5, hf⟩ := pf_e hf
      refine mc_bad C B dK (Nat.le_of_ble_eq_true rfl) er5.symm (Nat.le_of_ble_eq_true rfl) dX10_readLogLine_20 ?_
      obtain ⟨rfl, rfl⟩ := Prod.mk.inj (Option.some.inj hf)
      exact m_zret C hr (bz_bad_E er5.symm) hQ dX10_readLogLine_23
theorem bz_readLogLine_E {r : Int32} {τ : MS} {n : Nat} {σ : MS} (hf : f_readLogLine n σ = some (r, τ)) : r = 0 ∨ r = 1 := by
  unfold f_readLogLine at hf
  obtain ⟨v1, ev1, hf⟩ := pf_e hf
  by_cases c2 : v1 = 0
  · have hf := pf_t c2 hf
    obtain ⟨r3, er3, hf⟩ := pf_b hf
    by_cases c4 : r3 = 0
    · have hf := pf_t c4 hf
      obtain ⟨r5, er5, hf⟩ := pf_e hf
      obtain ⟨rfl, rfl⟩ := Prod.mk.inj (Option.some.inj hf)
      exact (bz_bad_E er5.symm)
    · have hf := pf_f c4 hf
      exact bz_readLogLine_24 hf
  · have hf := pf_f c2 hf
    exact bz_readLogLine_24 hf
theorem met_readLogLine {M : MT} {v : (Int32 × MS)} {n : Nat} {σ : MS} {l : Launch} (hc : (mCl M)[mCi M]? = some (RX10, TX10, 61)) (hf : f_readLogLine n σ = some v) : Met l yX10_readLogLine (ws_ yX10_readLogLine cX10_readLogLine 4 (some .boolean)) (rmD 6) (va_Pc [.ref (mO M)] (MU M σ)) (Qm M (some (.int v.1)) v.2) 0 0 (mAd M) :=
  m_met [.ref (mO M)] (by decide) rfl (Nat.le_of_ble_eq_true rfl) hc (fun K hl hR hr C B hQ => w_readLogLine_E _ C B hr hR hQ _ hf)
theorem mc_readLogLine {K : KT} {M : MT} {cc : ByteArray} {nL pc dk : Nat} {L : List (Nat × Value)} {rest : List Value} {σ : MS} {v : (Int32 × MS)} {n : Nat} (C : Kok K cc nL RX10) (B : MB K M) (dK : kR K = rmD dk) (hd : 6 + 1 ≤ dk) (hf : f_readLogLine n σ = some v) (hW : (rest.map fun v => v.category).sum ≤ 8) (dd : decode cc pc = .ok (.invokevirtual 450, 3)) (kk2 : XJ K nL (Wm K M v.2) (pc + 3) L ((.int v.1) :: rest)) : XJ K nL (Wm K M σ) pc L (.ref (mO M) :: rest) :=
  m_callV (rest := rest) (v := (some (.int v.1))) [] 0 rfl C B dK hd (Nat.le_of_ble_eq_true rfl) (lw_V q2433 q2435 qs106 q133 q2436) (by decide +kernel) (met_readLogLine B.2 hf) rfl hW dd kk2
def f_stay_2 (n : Nat) : Nat → Int32 → Int32 → MS → Option MS
  | 0, _, _, _ => none
  | m + 1, x1, x2, σ => if (92 : Int32) ≤ x2 then (if x1 = 0 then (some σ) else ((f_snap n σ).bind fun r3 => (f_takeBack n r3).bind fun r4 => some r4)) else (if inb ((198 : Int32) + x2) 532 = true then ev (ga σ 14 (Int32.toNatClampNeg ((198 : Int32) + x2))) fun v6 => if inb x2 92 = true then if inb ((198 : Int32) + x2) 532 = true then ev (sa σ 14 (Int32.toNatClampNeg ((198 : Int32) + x2)) (ga σ 18 (Int32.toNatClampNeg x2))) fun s9 => if inb x2 92 = true then ev (sa s9 18 (Int32.toNatClampNeg x2) v6) fun s11 => f_stay_2 n m x1 (x2 + (1 : Int32)) s11 else none else none else none else none)
set_option maxHeartbeats 4000000 in
theorem w_stay_2 {K : KT} {M : MT} {τ : MS} (n : Nat) (C : Kok K cX10_stay 4 RX10) (B : MB K M) (hr : (kMe K).sig.returnType = none) (dK : kR K = rmD 2) (hQ : KQm K M none τ) : ∀ (m : Nat) (x1 : Int32) (x2 : Int32) (σ : MS) (hf : f_stay_2 n m x1 x2 σ = some τ), XJ K 4 (Wm K M σ) 2 [(0, .ref (mO M)), (1, .int x1), (2, .int x2)] [] := by
  intro m
  induction m with
  | zero => intro x1 x2 σ hf; cases hf
  | succ m ih =>
    intro x1 x2 σ hf
    rw [f_stay_2] at hf
    refine x_iload_n C dX10_stay_2 2 rfl ?_
    refine x_bipush (92 : Int32) C dX10_stay_3 (by decide) ?_
    refine x_icmp_ge (tgt := 48) C dX10_stay_5 (by decide) (fun c1 => ?_) (fun c1 => ?_)
    · have hf := pf_t c1 hf
      refine x_iload_n C dX10_stay_48 1 rfl ?_
      refine x_if_ne (tgt := 53) C dX10_stay_49 (by decide) (fun c2 => ?_) (fun c2 => ?_)
      · have hf := pf_f c2 hf
        refine x_aload_n C dX10_stay_53 0 rfl ?_
        obtain ⟨r3, er3, hf⟩ := pf_b hf
        refine mc_snap C B dK (Nat.le_of_ble_eq_true rfl) er3 (Nat.le_of_ble_eq_true rfl) dX10_stay_54 ?_
        refine x_aload_n C dX10_stay_57 0 rfl ?_
        obtain ⟨r4, er4, hf⟩ := pf_b hf
        refine mc_takeBack C B dK (Nat.le_of_ble_eq_true rfl) er4 (Nat.le_of_ble_eq_true rfl) dX10_stay_58 ?_
        obtain rfl := Option.some.inj hf
        exact m_vret C hr hQ dX10_stay_61
      · have hf := pf_t c2 hf
        obtain rfl := Option.some.inj hf
        exact m_vret C hr hQ dX10_stay_52
    · have hf := pf_f c1 hf
      refine x_aload_n C dX10_stay_8 0 rfl ?_
      refine mg_14 C B dX10_stay_9 ?_
      refine x_sipush (198 : Int32) C dX10_stay_12 (by decide) ?_
      refine x_iload_n C dX10_stay_15 2 rfl ?_
      refine x_iadd C dX10_stay_16 ?_
      obtain ⟨h5, hf⟩ := pf_in hf
      refine ml_14 C B h5 dX10_stay_17 ?_
      obtain ⟨v6, ev6, hf⟩ := pf_e hf
      refine x_topir ev6 ?_
      refine x_istore_n (L' := [(0, .ref (mO M)), (1, .int x1), (2, .int x2), (3, .int v6)]) C dX10_stay_18 (Nat.le_of_ble_eq_true rfl) [1, 2, 3, 0] rfl ?_
      refine x_aload_n C dX10_stay_19 0 rfl ?_
      refine mg_14 C B dX10_stay_20 ?_
      refine x_sipush (198 : Int32) C dX10_stay_23 (by decide) ?_
      refine x_iload_n C dX10_stay_26 2 rfl ?_
      refine x_iadd C dX10_stay_27 ?_
      refine x_aload_n C dX10_stay_28 0 rfl ?_
      refine mg_18 C B dX10_stay_29 ?_
      refine x_iload_n C dX10_stay_32 2 rfl ?_
      obtain ⟨h7, hf⟩ := pf_in hf
      refine ml_18 C B h7 dX10_stay_33 ?_
      obtain ⟨h8, hf⟩ := pf_in hf
      refine ms_14 C B h8 dX10_stay_34 ?_
      obtain ⟨s9, es9, hf⟩ := pf_e hf
      refine m_ren es9 ?_
      refine x_aload_n C dX10_stay_35 0 rfl ?_
      refine mg_18 C B dX10_stay_36 ?_
      refine x_iload_n C dX10_stay_39 2 rfl ?_
      refine x_iload_n C dX10_stay_40 3 rfl ?_
      obtain ⟨h10, hf⟩ := pf_in hf
      refine ms_18 C B h10 dX10_stay_41 ?_
      obtain ⟨s11, es11, hf⟩ := pf_e hf
      refine m_ren es11 ?_
      refine x_inc (c := (1 : Int32)) (L' := [(0, .ref (mO M)), (1, .int x1), (2, .int (x2 + (1 : Int32)))]) C dX10_stay_42 2 rfl (by decide) (Nat.le_of_ble_eq_true rfl) [1, 2, 0] rfl ?_
      refine x_goto (tgt := 2) C dX10_stay_45 (by decide) ?_
      exact ih x1 (x2 + (1 : Int32)) _ hf
def f_stay (n : Nat) (x1 : Int32) (σ : MS) : Option MS := f_stay_2 n n x1 (0 : Int32) σ
set_option maxHeartbeats 4000000 in
theorem w_stay_E {K : KT} {M : MT} {τ : MS} (n : Nat) (C : Kok K cX10_stay 4 RX10) (B : MB K M) (hr : (kMe K).sig.returnType = none) (dK : kR K = rmD 2) (hQ : KQm K M none τ) (x1 : Int32) (σ : MS) (hf : f_stay n x1 σ = some τ) : XJ K 4 (Wm K M σ) 0 [(0, .ref (mO M)), (1, .int x1)] [] := by
  unfold f_stay at hf
  refine x_iconst (0 : Int32) C dX10_stay_0 (by decide) ?_
  refine x_istore_n (L' := [(0, .ref (mO M)), (1, .int x1), (2, .int (0 : Int32))]) C dX10_stay_1 (Nat.le_of_ble_eq_true rfl) [1, 2, 0] rfl ?_
  exact w_stay_2 n C B hr dK hQ n x1 (0 : Int32) _ hf
theorem met_stay {M : MT} {v : MS} {n : Nat} {σ : MS} {x1 : Int32} {l : Launch} (hc : (mCl M)[mCi M]? = some (RX10, TX10, 61)) (hf : f_stay n x1 σ = some v) : Met l yX10_stay (ws_ yX10_stay cX10_stay 4 none) (rmD 2) (va_Pc [.ref (mO M), .int x1] (MU M σ)) (Qm M none v) 0 0 (mAd M) :=
  m_met [.ref (mO M), .int x1] (by decide) rfl (Nat.le_of_ble_eq_true rfl) hc (fun K hl hR hr C B hQ => w_stay_E _ C B hr hR hQ _ _ hf)
theorem mc_stay {K : KT} {M : MT} {cc : ByteArray} {nL pc dk : Nat} {L : List (Nat × Value)} {rest : List Value} {σ : MS} {v : MS} {n : Nat} {x1 : Int32} (C : Kok K cc nL RX10) (B : MB K M) (dK : kR K = rmD dk) (hd : 2 + 1 ≤ dk) (hf : f_stay n x1 σ = some v) (hW : (rest.map fun v => v.category).sum ≤ 8) (dd : decode cc pc = .ok (.invokevirtual 459, 3)) (kk2 : XJ K nL (Wm K M v) (pc + 3) L (rest)) : XJ K nL (Wm K M σ) pc L (.int x1 :: .ref (mO M) :: rest) :=
  m_callV (rest := rest) (v := none) [.int x1] 1 rfl C B dK hd (Nat.le_of_ble_eq_true rfl) (lw_V q2449 q2451 qs110 q133 q2452) (by decide +kernel) (met_stay B.2 hf) rfl hW dd kk2
def f_log_103 (n : Nat) (x1 : Int32) (x2 : Int32) (x3 : Int32) (σ : MS) : Option (Int32 × MS) := ev (sa σ 53 0 x3) fun s1 => ev (sa s1 53 1 x2) fun s2 => ev (sa s2 53 2 (ga s2 14 198)) fun s3 => ev (sa s3 53 3 (ga s3 14 201)) fun s4 => ev (si s4 55 (1 : Int32)) fun s5 => if x1 = (1 : Int32) then (if x2 ≤ 0 then ((f_stay n (0 : Int32) s5).bind fun r10 => if x3 = 0 then (some ((-1 : Int32), r10)) else (some (x2, r10))) else ((f_stay n (1 : Int32) s5).bind fun r12 => if x3 = 0 then (some ((-1 : Int32), r12)) else (some (x2, r12)))) else ((f_stay n (0 : Int32) s5).bind fun r7 => if x3 = 0 then (some ((-1 : Int32), r7)) else (some (x2, r7)))
set_option maxHeartbeats 4000000 in
theorem w_log_103 {K : KT} {M : MT} {r : Int32} {τ : MS} (n : Nat) (C : Kok K cX10_log 4 RX10) (B : MB K M) (hr : (kMe K).sig.returnType = some .int) (dK : kR K = rmD 7) (hQ : KQm K M (some (.int r)) τ) (x1 : Int32) (x2 : Int32) (x3 : Int32) (σ : MS) (hf : f_log_103 n x1 x2 x3 σ = some (r, τ)) : XJ K 4 (Wm K M σ) 103 [(0, .ref (mO M)), (1, .int x1), (2, .int x2), (3, .int x3)] [] := by
  unfold f_log_103 at hf
  refine x_aload_n C dX10_log_103 0 rfl ?_
  refine mg_53 C B dX10_log_104 ?_
  refine x_iconst (0 : Int32) C dX10_log_107 (by decide) ?_
  refine x_iload_n C dX10_log_108 3 rfl ?_
  refine msc_53 0 C B (by decide +kernel) dX10_log_109 ?_
  obtain ⟨s1, es1, hf⟩ := pf_e hf
  refine m_ren es1 ?_
  refine x_aload_n C dX10_log_110 0 rfl ?_
  refine mg_53 C B dX10_log_111 ?_
  refine x_iconst (1 : Int32) C dX10_log_114 (by decide) ?_
  refine x_iload_n C dX10_log_115 2 rfl ?_
  refine msc_53 1 C B (by decide +kernel) dX10_log_116 ?_
  obtain ⟨s2, es2, hf⟩ := pf_e hf
  refine m_ren es2 ?_
  refine x_aload_n C dX10_log_117 0 rfl ?_
  refine mg_53 C B dX10_log_118 ?_
  refine x_iconst (2 : Int32) C dX10_log_121 (by decide) ?_
  refine x_aload_n C dX10_log_122 0 rfl ?_
  refine mg_14 C B dX10_log_123 ?_
  refine x_sipush (198 : Int32) C dX10_log_126 (by decide) ?_
  refine mlc_14 198 C B (by decide +kernel) dX10_log_129 ?_
  refine msc_53 2 C B (by decide +kernel) dX10_log_130 ?_
  obtain ⟨s3, es3, hf⟩ := pf_e hf
  refine m_ren es3 ?_
  refine x_aload_n C dX10_log_131 0 rfl ?_
  refine mg_53 C B dX10_log_132 ?_
  refine x_iconst (3 : Int32) C dX10_log_135 (by decide) ?_
  refine x_aload_n C dX10_log_136 0 rfl ?_
  refine mg_14 C B dX10_log_137 ?_
  refine x_sipush (201 : Int32) C dX10_log_140 (by decide) ?_
  refine mlc_14 201 C B (by decide +kernel) dX10_log_143 ?_
  refine msc_53 3 C B (by decide +kernel) dX10_log_144 ?_
  obtain ⟨s4, es4, hf⟩ := pf_e hf
  refine m_ren es4 ?_
  refine x_aload_n C dX10_log_145 0 rfl ?_
  refine x_iconst (1 : Int32) C dX10_log_146 (by decide) ?_
  refine mp_55 C B (Or.inr rfl) dX10_log_147 ?_
  obtain ⟨s5, es5, hf⟩ := pf_e hf
  refine m_ren es5 ?_
  refine x_aload_n C dX10_log_150 0 rfl ?_
  refine x_iload_n C dX10_log_151 1 rfl ?_
  refine x_iconst (1 : Int32) C dX10_log_152 (by decide) ?_
  refine x_icmp_ne (tgt := 164) C dX10_log_153 (by decide) (fun c6 => ?_) (fun c6 => ?_)
  · have hf := pf_f c6 hf
    refine x_iconst (0 : Int32) C dX10_log_164 (by decide) ?_
    obtain ⟨r7, er7, hf⟩ := pf_b hf
    refine mc_stay C B dK (Nat.le_of_ble_eq_true rfl) er7 (Nat.le_of_ble_eq_true rfl) dX10_log_165 ?_
    refine x_iload_n C dX10_log_168 3 rfl ?_
    refine x_if_ne (tgt := 176) C dX10_log_169 (by decide) (fun c8 => ?_) (fun c8 => ?_)
    · have hf := pf_f c8 hf
      refine x_iload_n C dX10_log_176 2 rfl ?_
      obtain ⟨rfl, rfl⟩ := Prod.mk.inj (Option.some.inj hf)
      exact m_iret C hr hQ dX10_log_177
    · have hf := pf_t c8 hf
      refine x_iconst (-1 : Int32) C dX10_log_172 (by decide) ?_
      refine x_goto (tgt := 177) C dX10_log_173 (by decide) ?_
      obtain ⟨rfl, rfl⟩ := Prod.mk.inj (Option.some.inj hf)
      exact m_iret C hr hQ dX10_log_177
  · have hf := pf_t c6 hf
    refine x_iload_n C dX10_log_156 2 rfl ?_
    refine x_if_le (tgt := 164) C dX10_log_157 (by decide) (fun c9 => ?_) (fun c9 => ?_)
    · have hf := pf_t c9 hf
      refine x_iconst (0 : Int32) C dX10_log_164 (by decide) ?_
      obtain ⟨r10, er10, hf⟩ := pf_b hf
      refine mc_stay C B dK (Nat.le_of_ble_eq_true rfl) er10 (Nat.le_of_ble_eq_true rfl) dX10_log_165 ?_
      refine x_iload_n C dX10_log_168 3 rfl ?_
      refine x_if_ne (tgt := 176) C dX10_log_169 (by decide) (fun c11 => ?_) (fun c11 => ?_)
      · have hf := pf_f c11 hf
        refine x_iload_n C dX10_log_176 2 rfl ?_
        obtain ⟨rfl, rfl⟩ := Prod.mk.inj (Option.some.inj hf)
        exact m_iret C hr hQ dX10_log_177
      · have hf := pf_t c11 hf
        refine x_iconst (-1 : Int32) C dX10_log_172 (by decide) ?_
        refine x_goto (tgt := 177) C dX10_log_173 (by decide) ?_
        obtain ⟨rfl, rfl⟩ := Prod.mk.inj (Option.some.inj hf)
        exact m_iret C hr hQ dX10_log_177
    · have hf := pf_f c9 hf
      refine x_iconst (1 : Int32) C dX10_log_160 (by decide) ?_
      refine x_goto (tgt := 165) C dX10_log_161 (by decide) ?_
      obtain ⟨r12, er12, hf⟩ := pf_b hf
      refine mc_stay C B dK (Nat.le_of_ble_eq_true rfl) er12 (Nat.le_of_ble_eq_true rfl) dX10_log_165 ?_
      refine x_iload_n C dX10_log_168 3 rfl ?_
      refine x_if_ne (tgt := 176) C dX10_log_169 (by decide) (fun c13 => ?_) (fun c13 => ?_)
      · have hf := pf_f c13 hf
        refine x_iload_n C dX10_log_176 2 rfl ?_
        obtain ⟨rfl, rfl⟩ := Prod.mk.inj (Option.some.inj hf)
        exact m_iret C hr hQ dX10_log_177
      · have hf := pf_t c13 hf
        refine x_iconst (-1 : Int32) C dX10_log_172 (by decide) ?_
        refine x_goto (tgt := 177) C dX10_log_173 (by decide) ?_
        obtain ⟨rfl, rfl⟩ := Prod.mk.inj (Option.some.inj hf)
        exact m_iret C hr hQ dX10_log_177
def f_log_73 (n : Nat) : Nat → Int32 → Int32 → Int32 → MS → Option (Int32 × MS)
  | 0, _, _, _, _ => none
  | m + 1, x1, x2, x3, σ => if (gi σ 54) ≤ x2 then (f_log_103 n x1 x2 x3 σ) else (if x3 = 0 then ((f_live n ((4 : Int32) * x2) σ).bind fun r3 => if r3.1 = 0 then (f_log_73 n m x1 (x2 + (1 : Int32)) r3.1 r3.2) else (f_log_73 n m x1 x2 r3.1 r3.2)) else (f_log_103 n x1 x2 x3 σ))
set_option maxHeartbeats 4000000 in
theorem w_log_73 {K : KT} {M : MT} {r : Int32} {τ : MS} (n : Nat) (C : Kok K cX10_log 4 RX10) (B : MB K M) (hr : (kMe K).sig.returnType = some .int) (dK : kR K = rmD 7) (hQ : KQm K M (some (.int r)) τ) : ∀ (m : Nat) (x1 : Int32) (x2 : Int32) (x3 : Int32) (σ : MS) (hf : f_log_73 n m x1 x2 x3 σ = some (r, τ)), XJ K 4 (Wm K M σ) 73 [(0, .ref (mO M)), (1, .int x1), (2, .int x2), (3, .int x3)] [] := by
  intro m
  induction m with
  | zero => intro x1 x2 x3 σ hf; cases hf
  | succ m ih =>
    intro x1 x2 x3 σ hf
    rw [f_log_73] at hf
    refine x_iload_n C dX10_log_73 2 rfl ?_
    refine x_aload_n C dX10_log_74 0 rfl ?_
    refine mg_54 C B dX10_log_75 ?_
    refine x_icmp_ge (tgt := 103) C dX10_log_78 (by decide) (fun c1 => ?_) (fun c1 => ?_)
    · have hf := pf_t c1 hf
      exact w_log_103 n C B hr dK hQ x1 x2 x3 _ hf
    · have hf := pf_f c1 hf
      refine x_iload_n C dX10_log_81 3 rfl ?_
      refine x_if_ne (tgt := 103) C dX10_log_82 (by decide) (fun c2 => ?_) (fun c2 => ?_)
      · have hf := pf_f c2 hf
        exact w_log_103 n C B hr dK hQ x1 x2 x3 _ hf
      · have hf := pf_t c2 hf
        refine x_aload_n C dX10_log_85 0 rfl ?_
        refine x_iconst (4 : Int32) C dX10_log_86 (by decide) ?_
        refine x_iload_n C dX10_log_87 2 rfl ?_
        refine x_imul C dX10_log_88 ?_
        obtain ⟨r3, er3, hf⟩ := pf_b hf
        refine mc_live C B dK (Nat.le_of_ble_eq_true rfl) er3 (Nat.le_of_ble_eq_true rfl) dX10_log_89 ?_
        refine x_istore_n (L' := [(0, .ref (mO M)), (1, .int x1), (2, .int x2), (3, .int r3.1)]) C dX10_log_92 (Nat.le_of_ble_eq_true rfl) [1, 2, 3, 0] rfl ?_
        refine x_iload_n C dX10_log_93 3 rfl ?_
        refine x_if_ne (tgt := 73) C dX10_log_94 (by decide) (fun c4 => ?_) (fun c4 => ?_)
        · have hf := pf_f c4 hf
          exact ih x1 x2 r3.1 _ hf
        · have hf := pf_t c4 hf
          refine x_inc (c := (1 : Int32)) (L' := [(0, .ref (mO M)), (1, .int x1), (2, .int (x2 + (1 : Int32))), (3, .int r3.1)]) C dX10_log_97 2 rfl (by decide) (Nat.le_of_ble_eq_true rfl) [1, 2, 0, 3] rfl ?_
          refine x_goto (tgt := 73) C dX10_log_100 (by decide) ?_
          exact ih x1 (x2 + (1 : Int32)) r3.1 _ hf
def f_log_30 (n : Nat) : Nat → Int32 → MS → Option (Int32 × MS)
  | 0, _, _ => none
  | m + 1, x1, σ => if (gi σ 7) = 0 then ((f_layAside n σ).bind fun r2 => f_log_73 n n x1 (0 : Int32) (0 : Int32) r2) else ((f_readLogLine n σ).bind fun r3 => if r3.1 = 0 then (some ((-2 : Int32) - (gi r3.2 11), r3.2)) else (ev (si r3.2 54 ((gi r3.2 54) + (1 : Int32))) fun s5 => f_log_30 n m x1 s5))
set_option maxHeartbeats 4000000 in
theorem w_log_30 {K : KT} {M : MT} {r : Int32} {τ : MS} (n : Nat) (C : Kok K cX10_log 4 RX10) (B : MB K M) (hr : (kMe K).sig.returnType = some .int) (dK : kR K = rmD 7) (hQ : KQm K M (some (.int r)) τ) : ∀ (m : Nat) (x1 : Int32) (σ : MS) (hf : f_log_30 n m x1 σ = some (r, τ)), XJ K 4 (Wm K M σ) 30 [(0, .ref (mO M)), (1, .int x1)] [] := by
  intro m
  induction m with
  | zero => intro x1 σ hf; cases hf
  | succ m ih =>
    intro x1 σ hf
    rw [f_log_30] at hf
    refine x_aload_n C dX10_log_30 0 rfl ?_
    refine mg_7 C B dX10_log_31 ?_
    refine x_if_eq (tgt := 65) C dX10_log_34 (by decide) (fun c1 => ?_) (fun c1 => ?_)
    · have hf := pf_t c1 hf
      refine x_aload_n C dX10_log_65 0 rfl ?_
      obtain ⟨r2, er2, hf⟩ := pf_b hf
      refine mc_layAside C B dK (Nat.le_of_ble_eq_true rfl) er2 (Nat.le_of_ble_eq_true rfl) dX10_log_66 ?_
      refine x_iconst (0 : Int32) C dX10_log_69 (by decide) ?_
      refine x_istore_n (L' := [(0, .ref (mO M)), (1, .int x1), (2, .int (0 : Int32))]) C dX10_log_70 (Nat.le_of_ble_eq_true rfl) [1, 2, 0] rfl ?_
      refine x_iconst (0 : Int32) C dX10_log_71 (by decide) ?_
      refine x_istore_n (L' := [(0, .ref (mO M)), (1, .int x1), (2, .int (0 : Int32)), (3, .int (0 : Int32))]) C dX10_log_72 (Nat.le_of_ble_eq_true rfl) [1, 2, 3, 0] rfl ?_
      exact w_log_73 n C B hr dK hQ n x1 (0 : Int32) (0 : Int32) _ hf
    · have hf := pf_f c1 hf
      refine x_aload_n C dX10_log_37 0 rfl ?_
      obtain ⟨r3, er3, hf⟩ := pf_b hf
      refine mc_readLogLine C B dK (Nat.le_of_ble_eq_true rfl) er3 (Nat.le_of_ble_eq_true rfl) dX10_log_38 ?_
      refine x_if_ne (tgt := 52) C dX10_log_41 (by decide) (fun c4 => ?_) (fun c4 => ?_)
      · have hf := pf_f c4 hf
        refine x_aload_n C dX10_log_52 0 rfl ?_
        refine x_dup C dX10_log_53 rfl ?_
        refine mg_54 C B dX10_log_54 ?_
        refine x_iconst (1 : Int32) C dX10_log_57 (by decide) ?_
        refine x_iadd C dX10_log_58 ?_
        refine mp_54 C B dX10_log_59 ?_
        obtain ⟨s5, es5, hf⟩ := pf_e hf
        refine m_ren es5 ?_
        refine x_goto (tgt := 30) C dX10_log_62 (by decide) ?_
        exact ih x1 _ hf
      · have hf := pf_t c4 hf
        refine x_bipush (-2 : Int32) C dX10_log_44 (by decide) ?_
        refine x_aload_n C dX10_log_46 0 rfl ?_
        refine mg_11 C B dX10_log_47 ?_
        refine x_isub C dX10_log_50 ?_
        obtain ⟨rfl, rfl⟩ := Prod.mk.inj (Option.some.inj hf)
        exact m_iret C hr hQ dX10_log_51
def f_log (n : Nat) (x1 : Int32) (σ : MS) : Option (Int32 × MS) := ev (si σ 0 (0 : Int32)) fun s1 => if (f_isIn x1 (0 : Int32) (1 : Int32)) = 0 then (some ((-1000 : Int32), s1)) else ((f_begin n (400 : Int32) s1).bind fun r3 => ev (si r3 54 (0 : Int32)) fun s4 => f_log_30 n n x1 s4)
set_option maxHeartbeats 4000000 in
theorem w_log_E {K : KT} {M : MT} {r : Int32} {τ : MS} (n : Nat) (C : Kok K cX10_log 4 RX10) (B : MB K M) (hr : (kMe K).sig.returnType = some .int) (dK : kR K = rmD 7) (hQ : KQm K M (some (.int r)) τ) (x1 : Int32) (σ : MS) (hf : f_log n x1 σ = some (r, τ)) : XJ K 4 (Wm K M σ) 0 [(0, .ref (mO M)), (1, .int x1)] [] := by
  unfold f_log at hf
  refine x_aload_n C dX10_log_0 0 rfl ?_
  refine x_iconst (0 : Int32) C dX10_log_1 (by decide) ?_
  refine mp_0 C B dX10_log_2 ?_
  obtain ⟨s1, es1, hf⟩ := pf_e hf
  refine m_ren es1 ?_
  refine x_iload_n C dX10_log_5 1 rfl ?_
  refine x_iconst (0 : Int32) C dX10_log_6 (by decide) ?_
  refine x_iconst (1 : Int32) C dX10_log_7 (by decide) ?_
  refine mc_isIn C B dK (Nat.le_of_ble_eq_true rfl) rfl (Nat.le_of_ble_eq_true rfl) dX10_log_8 ?_
  refine x_if_ne (tgt := 18) C dX10_log_11 (by decide) (fun c2 => ?_) (fun c2 => ?_)
  · have hf := pf_f c2 hf
    refine x_aload_n C dX10_log_18 0 rfl ?_
    refine x_sipush (400 : Int32) C dX10_log_19 (by decide) ?_
    obtain ⟨r3, er3, hf⟩ := pf_b hf
    refine mc_begin C B dK (Nat.le_of_ble_eq_true rfl) er3 (Nat.le_of_ble_eq_true rfl) dX10_log_22 ?_
    refine x_aload_n C dX10_log_25 0 rfl ?_
    refine x_iconst (0 : Int32) C dX10_log_26 (by decide) ?_
    refine mp_54 C B dX10_log_27 ?_
    obtain ⟨s4, es4, hf⟩ := pf_e hf
    refine m_ren es4 ?_
    exact w_log_30 n C B hr dK hQ n x1 _ hf
  · have hf := pf_t c2 hf
    refine x_sipush (-1000 : Int32) C dX10_log_14 (by decide) ?_
    obtain ⟨rfl, rfl⟩ := Prod.mk.inj (Option.some.inj hf)
    exact m_iret C hr hQ dX10_log_17
theorem met_log {M : MT} {v : (Int32 × MS)} {n : Nat} {σ : MS} {x1 : Int32} {l : Launch} (hc : (mCl M)[mCi M]? = some (RX10, TX10, 61)) (hf : f_log n x1 σ = some v) : Met l yX10_log (ws_ yX10_log cX10_log 4 (some .int)) (rmD 7) (va_Pc [.ref (mO M), .int x1] (MU M σ)) (Qm M (some (.int v.1)) v.2) 0 0 (mAd M) :=
  m_met [.ref (mO M), .int x1] (by decide) rfl (Nat.le_of_ble_eq_true rfl) hc (fun K hl hR hr C B hQ => w_log_E _ C B hr hR hQ _ _ hf)
def f_logged (x1 : Int32) (σ : MS) : Option (Int32 × MS) := ev (si σ 0 (0 : Int32)) fun s1 => if (gi s1 55) = 0 then (some ((-1 : Int32), s1)) else (if (f_isIn x1 (0 : Int32) (3 : Int32)) = 0 then (some ((-1 : Int32), s1)) else (if inb x1 4 = true then some (ga s1 53 (Int32.toNatClampNeg x1), s1) else none))
set_option maxHeartbeats 4000000 in
theorem w_logged_E {K : KT} {M : MT} {r : Int32} {τ : MS} (C : Kok K cX10_logged 2 RX10) (B : MB K M) (hr : (kMe K).sig.returnType = some .int) (dK : kR K = rmD 2) (hQ : KQm K M (some (.int r)) τ) (x1 : Int32) (σ : MS) (hf : f_logged x1 σ = some (r, τ)) : XJ K 2 (Wm K M σ) 0 [(0, .ref (mO M)), (1, .int x1)] [] := by
  unfold f_logged at hf
  refine x_aload_n C dX10_logged_0 0 rfl ?_
  refine x_iconst (0 : Int32) C dX10_logged_1 (by decide) ?_
  refine mp_0 C B dX10_logged_2 ?_
  obtain ⟨s1, es1, hf⟩ := pf_e hf
  refine m_ren es1 ?_
  refine x_aload_n C dX10_logged_5 0 rfl ?_
  refine mg_55 C B dX10_logged_6 ?_
  refine x_if_eq (tgt := 30) C dX10_logged_9 (by decide) (fun c2 => ?_) (fun c2 => ?_)
  · have hf := pf_t c2 hf
    refine x_iconst (-1 : Int32) C dX10_logged_30 (by decide) ?_
    obtain ⟨rfl, rfl⟩ := Prod.mk.inj (Option.some.inj hf)
    exact m_iret C hr hQ dX10_logged_31
  · have hf := pf_f c2 hf
    refine x_iload_n C dX10_logged_12 1 rfl ?_
    refine x_iconst (0 : Int32) C dX10_logged_13 (by decide) ?_
    refine x_iconst (3 : Int32) C dX10_logged_14 (by decide) ?_
    refine mc_isIn C B dK (Nat.le_of_ble_eq_true rfl) rfl (Nat.le_of_ble_eq_true rfl) dX10_logged_15 ?_
    refine x_if_eq (tgt := 30) C dX10_logged_18 (by decide) (fun c3 => ?_) (fun c3 => ?_)
    · have hf := pf_t c3 hf
      refine x_iconst (-1 : Int32) C dX10_logged_30 (by decide) ?_
      obtain ⟨rfl, rfl⟩ := Prod.mk.inj (Option.some.inj hf)
      exact m_iret C hr hQ dX10_logged_31
    · have hf := pf_f c3 hf
      refine x_aload_n C dX10_logged_21 0 rfl ?_
      refine mg_53 C B dX10_logged_22 ?_
      refine x_iload_n C dX10_logged_25 1 rfl ?_
      obtain ⟨h4, hf⟩ := pf_in hf
      refine ml_53 C B h4 dX10_logged_26 ?_
      refine x_goto (tgt := 31) C dX10_logged_27 (by decide) ?_
      obtain ⟨rfl, rfl⟩ := Prod.mk.inj (Option.some.inj hf)
      exact m_iret C hr hQ dX10_logged_31
theorem met_logged {M : MT} {v : (Int32 × MS)} {σ : MS} {x1 : Int32} {l : Launch} (hc : (mCl M)[mCi M]? = some (RX10, TX10, 61)) (hf : f_logged x1 σ = some v) : Met l yX10_logged (ws_ yX10_logged cX10_logged 2 (some .int)) (rmD 2) (va_Pc [.ref (mO M), .int x1] (MU M σ)) (Qm M (some (.int v.1)) v.2) 0 0 (mAd M) :=
  m_met [.ref (mO M), .int x1] (by decide) rfl (Nat.le_of_ble_eq_true rfl) hc (fun K hl hR hr C B hQ => w_logged_E C B hr hR hQ _ _ hf)
def f_saysOne (x1 : Int32) (x2 : Int32) (x3 : Int32) (x4 : Int32) (σ : MS) : Option (Int32 × MS) := ev ((4 : Int32) * (gi σ 57)) fun v1 => if inb v1 240 = true then ev (sa σ 56 (Int32.toNatClampNeg v1) x1) fun s3 => if inb (v1 + (1 : Int32)) 240 = true then ev (sa s3 56 (Int32.toNatClampNeg (v1 + (1 : Int32))) x2) fun s5 => if inb (v1 + (2 : Int32)) 240 = true then ev (sa s5 56 (Int32.toNatClampNeg (v1 + (2 : Int32))) x3) fun s7 => if inb (v1 + (3 : Int32)) 240 = true then ev (sa s7 56 (Int32.toNatClampNeg (v1 + (3 : Int32))) x4) fun s9 => ev (si s9 57 ((gi s9 57) + (1 : Int32))) fun s10 => some ((gi s10 57) - (1 : Int32), s10) else none else none else none else none
set_option maxHeartbeats 4000000 in
theorem w_saysOne_E {K : KT} {M : MT} {r : Int32} {τ : MS} (C : Kok K cX10_saysOne 6 RX10) (B : MB K M) (hr : (kMe K).sig.returnType = some .int) (dK : kR K = rmD 1) (hQ : KQm K M (some (.int r)) τ) (x1 : Int32) (x2 : Int32) (x3 : Int32) (x4 : Int32) (σ : MS) (hf : f_saysOne x1 x2 x3 x4 σ = some (r, τ)) : XJ K 6 (Wm K M σ) 0 [(0, .ref (mO M)), (1, .int x1), (2, .int x2), (3, .int x3), (4, .int x4)] [] := by
  unfold f_saysOne at hf
  refine x_iconst (4 : Int32) C dX10_saysOne_0 (by decide) ?_
  refine x_aload_n C dX10_saysOne_1 0 rfl ?_
  refine mg_57 C B dX10_saysOne_2 ?_
  refine x_imul C dX10_saysOne_5 ?_
  obtain ⟨v1, ev1, hf⟩ := pf_e hf
  refine x_topir ev1 ?_
  refine x_istore (L' := [(0, .ref (mO M)), (1, .int x1), (2, .int x2), (3, .int x3), (4, .int x4), (5, .int v1)]) C dX10_saysOne_6 (Nat.le_of_ble_eq_true rfl) [1, 2, 3, 4, 5, 0] rfl ?_
  refine x_aload_n C dX10_saysOne_8 0 rfl ?_
  refine mg_56 C B dX10_saysOne_9 ?_
  refine x_iload C dX10_saysOne_12 5 rfl ?_
  refine x_iload_n C dX10_saysOne_14 1 rfl ?_
  obtain ⟨h2, hf⟩ := pf_in hf
  refine ms_56 C B h2 dX10_saysOne_15 ?_
  obtain ⟨s3, es3, hf⟩ := pf_e hf
  refine m_ren es3 ?_
  refine x_aload_n C dX10_saysOne_16 0 rfl ?_
  refine mg_56 C B dX10_saysOne_17 ?_
  refine x_iload C dX10_saysOne_20 5 rfl ?_
  refine x_iconst (1 : Int32) C dX10_saysOne_22 (by decide) ?_
  refine x_iadd C dX10_saysOne_23 ?_
  refine x_iload_n C dX10_saysOne_24 2 rfl ?_
  obtain ⟨h4, hf⟩ := pf_in hf
  refine ms_56 C B h4 dX10_saysOne_25 ?_
  obtain ⟨s5, es5, hf⟩ := pf_e hf
  refine m_ren es5 ?_
  refine x_aload_n C dX10_saysOne_26 0 rfl ?_
  refine mg_56 C B dX10_saysOne_27 ?_
  refine x_iload C dX10_saysOne_30 5 rfl ?_
  refine x_iconst (2 : Int32) C dX10_saysOne_32 (by decide) ?_
  refine x_iadd C dX10_saysOne_33 ?_
  refine x_iload_n C dX10_saysOne_34 3 rfl ?_
  obtain ⟨h6, hf⟩ := pf_in hf
  refine ms_56 C B h6 dX10_saysOne_35 ?_
  obtain ⟨s7, es7, hf⟩ := pf_e hf
  refine m_ren es7 ?_
  refine x_aload_n C dX10_saysOne_36 0 rfl ?_
  refine mg_56 C B dX10_saysOne_37 ?_
  refine x_iload C dX10_saysOne_40 5 rfl ?_
  refine x_iconst (3 : Int32) C dX10_saysOne_42 (by decide) ?_
  refine x_iadd C dX10_saysOne_43 ?_
  refine x_iload C dX10_saysOne_44 4 rfl ?_
  obtain ⟨h8, hf⟩ := pf_in hf
  refine ms_56 C B h8 dX10_saysOne_46 ?_
  obtain ⟨s9, es9, hf⟩ := pf_e hf
  refine m_ren es9 ?_
  refine x_aload_n C dX10_saysOne_47 0 rfl ?_
  refine x_dup C dX10_saysOne_48 rfl ?_
  refine mg_57 C B dX10_saysOne_49 ?_
  refine x_iconst (1 : Int32) C dX10_saysOne_52 (by decide) ?_
  refine x_iadd C dX10_saysOne_53 ?_
  refine mp_57 C B dX10_saysOne_54 ?_
  obtain ⟨s10, es10, hf⟩ := pf_e hf
  refine m_ren es10 ?_
  refine x_aload_n C dX10_saysOne_57 0 rfl ?_
  refine mg_57 C B dX10_saysOne_58 ?_
  refine x_iconst (1 : Int32) C dX10_saysOne_61 (by decide) ?_
  refine x_isub C dX10_saysOne_62 ?_
  obtain ⟨rfl, rfl⟩ := Prod.mk.inj (Option.some.inj hf)
  exact m_iret C hr hQ dX10_saysOne_63
theorem met_saysOne {M : MT} {v : (Int32 × MS)} {σ : MS} {x1 : Int32} {x2 : Int32} {x3 : Int32} {x4 : Int32} {l : Launch} (hc : (mCl M)[mCi M]? = some (RX10, TX10, 61)) (hf : f_saysOne x1 x2 x3 x4 σ = some v) : Met l yX10_saysOne (ws_ yX10_saysOne cX10_saysOne 6 (some .int)) (rmD 1) (va_Pc [.ref (mO M), .int x1, .int x2, .int x3, .int x4] (MU M σ)) (Qm M (some (.int v.1)) v.2) 0 0 (mAd M) :=
  m_met [.ref (mO M), .int x1, .int x2, .int x3, .int x4] (by decide) rfl (Nat.le_of_ble_eq_true rfl) hc (fun K hl hR hr C B hQ => w_saysOne_E C B hr hR hQ _ _ _ _ _ hf)
theorem mc_saysOne {K : KT} {M : MT} {cc : ByteArray} {nL pc dk : Nat} {L : List (Nat × Value)} {rest : List Value} {σ : MS} {v : (Int32 × MS)} {x1 : Int32} {x2 : Int32} {x3 : Int32} {x4 : Int32} (C : Kok K cc nL RX10) (B : MB K M) (dK : kR K = rmD dk) (hd : 1 + 1 ≤ dk) (hf : f_saysOne x1 x2 x3 x4 σ = some v) (hW : (rest.map fun v => v.category).sum ≤ 8) (dd : decode cc pc = .ok (.invokevirtual 472, 3)) (kk2 : XJ K nL (Wm K M v.2) (pc + 3) L ((.int v.1) :: rest)) : XJ K nL (Wm K M σ) pc L (.int x4 :: .int x3 :: .int x2 :: .int x1 :: .ref (mO M) :: rest) :=
  m_callV (rest := rest) (v := (some (.int v.1))) [.int x1, .int x2, .int x3, .int x4] 4 rfl C B dK hd (Nat.le_of_ble_eq_true rfl) (lw_V q2481 q2483 qs116 q133 q2484) (by decide +kernel) (met_saysOne B.2 hf) rfl hW dd kk2
def f_readCompare_33 (n : Nat) (x1 : Int32) (σ : MS) : Option (Int32 × MS) := ev (gi σ 9) fun v1 => (f_go n σ).bind fun r2 => (f_readNumber n (0 : Int32) (999 : Int32) r2).bind fun r3 => if r3.1 = 0 then (some ((0 : Int32), r3.2)) else ((f_saysOne ((50 : Int32) + x1) (0 : Int32) (gi r3.2 13) v1 r3.2).bind fun r5 => ev (si r5.2 60 r5.1) fun s6 => some ((1 : Int32), s6))
set_option maxHeartbeats 4000000 in
theorem w_readCompare_33 {K : KT} {M : MT} {r : Int32} {τ : MS} (n : Nat) (C : Kok K cX10_readCompare 3 RX10) (B : MB K M) (hr : (kMe K).sig.returnType = some .boolean) (dK : kR K = rmD 4) (hQ : KQm K M (some (.int r)) τ) (x1 : Int32) (σ : MS) (hf : f_readCompare_33 n x1 σ = some (r, τ)) : XJ K 3 (Wm K M σ) 33 [(0, .ref (mO M)), (1, .int x1)] [] := by
  unfold f_readCompare_33 at hf
  refine x_aload_n C dX10_readCompare_33 0 rfl ?_
  refine mg_9 C B dX10_readCompare_34 ?_
  obtain ⟨v1, ev1, hf⟩ := pf_e hf
  refine x_topir ev1 ?_
  refine x_istore_n (L' := [(0, .ref (mO M)), (1, .int x1), (2, .int v1)]) C dX10_readCompare_37 (Nat.le_of_ble_eq_true rfl) [1, 2, 0] rfl ?_
  refine x_aload_n C dX10_readCompare_38 0 rfl ?_
  obtain ⟨r2, er2, hf⟩ := pf_b hf
  refine mc_go C B dK (Nat.le_of_ble_eq_true rfl) er2 (Nat.le_of_ble_eq_true rfl) dX10_readCompare_39 ?_
  refine x_aload_n C dX10_readCompare_42 0 rfl ?_
  refine x_iconst (0 : Int32) C dX10_readCompare_43 (by decide) ?_
  refine x_sipush (999 : Int32) C dX10_readCompare_44 (by decide) ?_
  obtain ⟨r3, er3, hf⟩ := pf_b hf
  refine mc_readNumber C B dK (Nat.le_of_ble_eq_true rfl) er3 (Nat.le_of_ble_eq_true rfl) dX10_readCompare_47 ?_
  refine x_if_ne (tgt := 55) C dX10_readCompare_50 (by decide) (fun c4 => ?_) (fun c4 => ?_)
  · have hf := pf_f c4 hf
    refine x_aload_n C dX10_readCompare_55 0 rfl ?_
    refine x_aload_n C dX10_readCompare_56 0 rfl ?_
    refine x_bipush (50 : Int32) C dX10_readCompare_57 (by decide) ?_
    refine x_iload_n C dX10_readCompare_59 1 rfl ?_
    refine x_iadd C dX10_readCompare_60 ?_
    refine x_iconst (0 : Int32) C dX10_readCompare_61 (by decide) ?_
    refine x_aload_n C dX10_readCompare_62 0 rfl ?_
    refine mg_13 C B dX10_readCompare_63 ?_
    refine x_iload_n C dX10_readCompare_66 2 rfl ?_
    obtain ⟨r5, er5, hf⟩ := pf_b hf
    refine mc_saysOne C B dK (Nat.le_of_ble_eq_true rfl) er5 (Nat.le_of_ble_eq_true rfl) dX10_readCompare_67 ?_
    refine mp_60 C B dX10_readCompare_70 ?_
    obtain ⟨s6, es6, hf⟩ := pf_e hf
    refine m_ren es6 ?_
    refine x_iconst (1 : Int32) C dX10_readCompare_73 (by decide) ?_
    obtain ⟨rfl, rfl⟩ := Prod.mk.inj (Option.some.inj hf)
    exact m_zret C hr (Or.inr rfl) hQ dX10_readCompare_74
  · have hf := pf_t c4 hf
    refine x_iconst (0 : Int32) C dX10_readCompare_53 (by decide) ?_
    obtain ⟨rfl, rfl⟩ := Prod.mk.inj (Option.some.inj hf)
    exact m_zret C hr (Or.inl rfl) hQ dX10_readCompare_54
theorem bz_readCompare_33 {r : Int32} {τ : MS} {n : Nat} {x1 : Int32} {σ : MS} (hf : f_readCompare_33 n x1 σ = some (r, τ)) : r = 0 ∨ r = 1 := by
  unfold f_readCompare_33 at hf
  obtain ⟨v1, ev1, hf⟩ := pf_e hf
  obtain ⟨r2, er2, hf⟩ := pf_b hf
  obtain ⟨r3, er3, hf⟩ := pf_b hf
  by_cases c4 : r3.1 = 0
  · have hf := pf_t c4 hf
    obtain ⟨rfl, rfl⟩ := Prod.mk.inj (Option.some.inj hf)
    exact (Or.inl rfl)
  · have hf := pf_f c4 hf
    obtain ⟨r5, er5, hf⟩ := pf_b hf
    obtain ⟨s6, es6, hf⟩ := pf_e hf
    obtain ⟨rfl, rfl⟩ := Prod.mk.inj (Option.some.inj hf)
    exact (Or.inr rfl)
def f_readCompare (n : Nat) (x1 : Int32) (σ : MS) : Option (Int32 × MS) := if (f_isSign σ (60 : Int32)) = 0 then (if (f_isSign σ (61 : Int32)) = 0 then (if (f_isSign σ (62 : Int32)) = 0 then (ev (f_bad (1 : Int32) σ) fun r4 => some (r4.1, r4.2)) else (f_readCompare_33 n x1 σ)) else (f_readCompare_33 n x1 σ)) else (f_readCompare_33 n x1 σ)
set_option maxHeartbeats 4000000 in
theorem w_readCompare_E {K : KT} {M : MT} {r : Int32} {τ : MS} (n : Nat) (C : Kok K cX10_readCompare 3 RX10) (B : MB K M) (hr : (kMe K).sig.returnType = some .boolean) (dK : kR K = rmD 4) (hQ : KQm K M (some (.int r)) τ) (x1 : Int32) (σ : MS) (hf : f_readCompare n x1 σ = some (r, τ)) : XJ K 3 (Wm K M σ) 0 [(0, .ref (mO M)), (1, .int x1)] [] := by
  unfold f_readCompare at hf
  refine x_aload_n C dX10_readCompare_0 0 rfl ?_
  refine x_bipush (60 : Int32) C dX10_readCompare_1 (by decide) ?_
  refine mc_isSign C B dK (Nat.le_of_ble_eq_true rfl) rfl (Nat.le_of_ble_eq_true rfl) dX10_readCompare_3 ?_
  refine x_if_ne (tgt := 33) C dX10_readCompare_6 (by decide) (fun c1 => ?_) (fun c1 => ?_)
  · have hf := pf_f c1 hf
    exact w_readCompare_33 n C B hr dK hQ x1 _ hf
  · have hf := pf_t c1 hf
    refine x_aload_n C dX10_readCompare_9 0 rfl ?_
    refine x_bipush (61 : Int32) C dX10_readCompare_10 (by decide) ?_
    refine mc_isSign C B dK (Nat.le_of_ble_eq_true rfl) rfl (Nat.le_of_ble_eq_true rfl) dX10_readCompare_12 ?_
    refine x_if_ne (tgt := 33) C dX10_readCompare_15 (by decide) (fun c2 => ?_) (fun c2 => ?_)
    · have hf := pf_f c2 hf
      exact w_readCompare_33 n C B hr dK hQ x1 _ hf
    · have hf := pf_t c2 hf
      refine x_aload_n C dX10_readCompare_18 0 rfl ?_
      refine x_bipush (62 : Int32) C dX10_readCompare_19 (by decide) ?_
      refine mc_isSign C B dK (Nat.le_of_ble_eq_true rfl) rfl (Nat.le_of_ble_eq_true rfl) dX10_readCompare_21 ?_
      refine x_if_ne (tgt := 33) C dX10_readCompare_24 (by decide) (fun c3 => ?_) (fun c3 => ?_)
      · have hf := pf_f c3 hf
        exact w_readCompare_33 n C B hr dK hQ x1 _ hf
      · have hf := pf_t c3 hf
        refine x_aload_n C dX10_readCompare_27 0 rfl ?_
        refine x_iconst (1 : Int32) C dX10_readCompare_28 (by decide) ?_
        obtain ⟨r4, er4, hf⟩ := pf_e hf
        refine mc_bad C B dK (Nat.le_of_ble_eq_true rfl) er4.symm (Nat.le_of_ble_eq_true rfl) dX10_readCompare_29 ?_
        obtain ⟨rfl, rfl⟩ := Prod.mk.inj (Option.some.inj hf)
        exact m_zret C hr (bz_bad_E er4.symm) hQ dX10_readCompare_32
theorem bz_readCompare_E {r : Int32} {τ : MS} {n : Nat} {x1 : Int32} {σ : MS} (hf : f_readCompare n x1 σ = some (r, τ)) : r = 0 ∨ r = 1 := by
  unfold f_readCompare at hf
  by_cases c1 : (f_isSign σ (60 : Int32)) = 0
  · have hf := pf_t c1 hf
    by_cases c2 : (f_isSign σ (61 : Int32)) = 0
    · have hf := pf_t c2 hf
      by_cases c3 : (f_isSign σ (62 : Int32)) = 0
      · have hf := pf_t c3 hf
        obtain ⟨r4, er4, hf⟩ := pf_e hf
        obtain ⟨rfl, rfl⟩ := Prod.mk.inj (Option.some.inj hf)
        exact (bz_bad_E er4.symm)
      · have hf := pf_f c3 hf
        exact bz_readCompare_33 hf
    · have hf := pf_f c2 hf
      exact bz_readCompare_33 hf
  · have hf := pf_f c1 hf
    exact bz_readCompare_33 hf
theorem met_readCompare {M : MT} {v : (Int32 × MS)} {n : Nat} {σ : MS} {x1 : Int32} {l : Launch} (hc : (mCl M)[mCi M]? = some (RX10, TX10, 61)) (hf : f_readCompare n x1 σ = some v) : Met l yX10_readCompare (ws_ yX10_readCompare cX10_readCompare 3 (some .boolean)) (rmD 4) (va_Pc [.ref (mO M), .int x1] (MU M σ)) (Qm M (some (.int v.1)) v.2) 0 0 (mAd M) :=
  m_met [.ref (mO M), .int x1] (by decide) rfl (Nat.le_of_ble_eq_true rfl) hc (fun K hl hR hr C B hQ => w_readCompare_E _ C B hr hR hQ _ _ hf)
theorem mc_readCompare {K : KT} {M : MT} {cc : ByteArray} {nL pc dk : Nat} {L : List (Nat × Value)} {rest : List Value} {σ : MS} {v : (Int32 × MS)} {n : Nat} {x1 : Int32} (C : Kok K cc nL RX10) (B : MB K M) (dK : kR K = rmD dk) (hd : 4 + 1 ≤ dk) (hf : f_readCompare n x1 σ = some v) (hW : (rest.map fun v => v.category).sum ≤ 8) (dd : decode cc pc = .ok (.invokevirtual 494, 3)) (kk2 : XJ K nL (Wm K M v.2) (pc + 3) L ((.int v.1) :: rest)) : XJ K nL (Wm K M σ) pc L (.int x1 :: .ref (mO M) :: rest) :=
  m_callV (rest := rest) (v := (some (.int v.1))) [.int x1] 1 rfl C B dK hd (Nat.le_of_ble_eq_true rfl) (lw_V q2489 q2491 qs118 q133 q2492) (by decide +kernel) (met_readCompare B.2 hf) rfl hW dd kk2
def f_readOf_28 (n : Nat) (x1 : Int32) (y1 : Int32) (y3 : Int32) (σ : MS) : Option (Int32 × MS) := if inb y3 532 = true then (f_readNamed n y1 (ga σ 14 (Int32.toNatClampNeg y3)) σ).bind fun r2 => if r2.1 = 0 then (some ((0 : Int32), r2.2)) else ((f_saysOne ((50 : Int32) + x1) (gi r2.2 13) (0 : Int32) (0 : Int32) r2.2).bind fun r4 => ev (si r4.2 60 r4.1) fun s5 => some ((1 : Int32), s5)) else none
set_option maxHeartbeats 4000000 in
theorem w_readOf_28 {K : KT} {M : MT} {r : Int32} {τ : MS} (n : Nat) (C : Kok K cX10_readOf 2 RX10) (B : MB K M) (hr : (kMe K).sig.returnType = some .boolean) (dK : kR K = rmD 5) (hQ : KQm K M (some (.int r)) τ) (x1 : Int32) (y1 : Int32) (y3 : Int32) (σ : MS) (hf : f_readOf_28 n x1 y1 y3 σ = some (r, τ)) : XJ K 2 (Wm K M σ) 28 [(0, .ref (mO M)), (1, .int x1)] [.int y3, .ref (mAr M 14), .int y1, .ref (mO M)] := by
  unfold f_readOf_28 at hf
  obtain ⟨h1, hf⟩ := pf_in hf
  refine ml_14 C B h1 dX10_readOf_28 ?_
  obtain ⟨r2, er2, hf⟩ := pf_b hf
  refine mc_readNamed C B dK (Nat.le_of_ble_eq_true rfl) er2 (Nat.le_of_ble_eq_true rfl) dX10_readOf_29 ?_
  refine x_if_ne (tgt := 37) C dX10_readOf_32 (by decide) (fun c3 => ?_) (fun c3 => ?_)
  · have hf := pf_f c3 hf
    refine x_aload_n C dX10_readOf_37 0 rfl ?_
    refine x_aload_n C dX10_readOf_38 0 rfl ?_
    refine x_bipush (50 : Int32) C dX10_readOf_39 (by decide) ?_
    refine x_iload_n C dX10_readOf_41 1 rfl ?_
    refine x_iadd C dX10_readOf_42 ?_
    refine x_aload_n C dX10_readOf_43 0 rfl ?_
    refine mg_13 C B dX10_readOf_44 ?_
    refine x_iconst (0 : Int32) C dX10_readOf_47 (by decide) ?_
    refine x_iconst (0 : Int32) C dX10_readOf_48 (by decide) ?_
    obtain ⟨r4, er4, hf⟩ := pf_b hf
    refine mc_saysOne C B dK (Nat.le_of_ble_eq_true rfl) er4 (Nat.le_of_ble_eq_true rfl) dX10_readOf_49 ?_
    refine mp_60 C B dX10_readOf_52 ?_
    obtain ⟨s5, es5, hf⟩ := pf_e hf
    refine m_ren es5 ?_
    refine x_iconst (1 : Int32) C dX10_readOf_55 (by decide) ?_
    obtain ⟨rfl, rfl⟩ := Prod.mk.inj (Option.some.inj hf)
    exact m_zret C hr (Or.inr rfl) hQ dX10_readOf_56
  · have hf := pf_t c3 hf
    refine x_iconst (0 : Int32) C dX10_readOf_35 (by decide) ?_
    obtain ⟨rfl, rfl⟩ := Prod.mk.inj (Option.some.inj hf)
    exact m_zret C hr (Or.inl rfl) hQ dX10_readOf_36
theorem bz_readOf_28 {r : Int32} {τ : MS} {n : Nat} {x1 : Int32} {y1 : Int32} {y3 : Int32} {σ : MS} (hf : f_readOf_28 n x1 y1 y3 σ = some (r, τ)) : r = 0 ∨ r = 1 := by
  unfold f_readOf_28 at hf
  obtain ⟨h1, hf⟩ := pf_in hf
  obtain ⟨r2, er2, hf⟩ := pf_b hf
  by_cases c3 : r2.1 = 0
  · have hf := pf_t c3 hf
    obtain ⟨rfl, rfl⟩ := Prod.mk.inj (Option.some.inj hf)
    exact (Or.inl rfl)
  · have hf := pf_f c3 hf
    obtain ⟨r4, er4, hf⟩ := pf_b hf
    obtain ⟨s5, es5, hf⟩ := pf_e hf
    obtain ⟨rfl, rfl⟩ := Prod.mk.inj (Option.some.inj hf)
    exact (Or.inr rfl)
def f_readOf (n : Nat) (x1 : Int32) (σ : MS) : Option (Int32 × MS) := if x1 = (18 : Int32) then (if x1 = (18 : Int32) then (f_readOf_28 n x1 (8 : Int32) (2 : Int32) σ) else (f_readOf_28 n x1 (8 : Int32) (0 : Int32) σ)) else (if x1 = (18 : Int32) then (f_readOf_28 n x1 (0 : Int32) (2 : Int32) σ) else (f_readOf_28 n x1 (0 : Int32) (0 : Int32) σ))
set_option maxHeartbeats 4000000 in
theorem w_readOf_E {K : KT} {M : MT} {r : Int32} {τ : MS} (n : Nat) (C : Kok K cX10_readOf 2 RX10) (B : MB K M) (hr : (kMe K).sig.returnType = some .boolean) (dK : kR K = rmD 5) (hQ : KQm K M (some (.int r)) τ) (x1 : Int32) (σ : MS) (hf : f_readOf n x1 σ = some (r, τ)) : XJ K 2 (Wm K M σ) 0 [(0, .ref (mO M)), (1, .int x1)] [] := by
  unfold f_readOf at hf
  refine x_aload_n C dX10_readOf_0 0 rfl ?_
  refine x_iload_n C dX10_readOf_1 1 rfl ?_
  refine x_bipush (18 : Int32) C dX10_readOf_2 (by decide) ?_
  refine x_icmp_ne (tgt := 12) C dX10_readOf_4 (by decide) (fun c1 => ?_) (fun c1 => ?_)
  · have hf := pf_f c1 hf
    refine x_iconst (0 : Int32) C dX10_readOf_12 (by decide) ?_
    refine x_aload_n C dX10_readOf_13 0 rfl ?_
    refine mg_14 C B dX10_readOf_14 ?_
    refine x_iload_n C dX10_readOf_17 1 rfl ?_
    refine x_bipush (18 : Int32) C dX10_readOf_18 (by decide) ?_
    refine x_icmp_ne (tgt := 27) C dX10_readOf_20 (by decide) (fun c2 => ?_) (fun c2 => ?_)
    · have hf := pf_f c2 hf
      refine x_iconst (0 : Int32) C dX10_readOf_27 (by decide) ?_
      exact w_readOf_28 n C B hr dK hQ x1 (0 : Int32) (0 : Int32) _ hf
    · have hf := pf_t c2 hf
      refine x_iconst (2 : Int32) C dX10_readOf_23 (by decide) ?_
      refine x_goto (tgt := 28) C dX10_readOf_24 (by decide) ?_
      exact w_readOf_28 n C B hr dK hQ x1 (0 : Int32) (2 : Int32) _ hf
  · have hf := pf_t c1 hf
    refine x_bipush (8 : Int32) C dX10_readOf_7 (by decide) ?_
    refine x_goto (tgt := 13) C dX10_readOf_9 (by decide) ?_
    refine x_aload_n C dX10_readOf_13 0 rfl ?_
    refine mg_14 C B dX10_readOf_14 ?_
    refine x_iload_n C dX10_readOf_17 1 rfl ?_
    refine x_bipush (18 : Int32) C dX10_readOf_18 (by decide) ?_
    refine x_icmp_ne (tgt := 27) C dX10_readOf_20 (by decide) (fun c3 => ?_) (fun c3 => ?_)
    · have hf := pf_f c3 hf
      refine x_iconst (0 : Int32) C dX10_readOf_27 (by decide) ?_
      exact w_readOf_28 n C B hr dK hQ x1 (8 : Int32) (0 : Int32) _ hf
    · have hf := pf_t c3 hf
      refine x_iconst (2 : Int32) C dX10_readOf_23 (by decide) ?_
      refine x_goto (tgt := 28) C dX10_readOf_24 (by decide) ?_
      exact w_readOf_28 n C B hr dK hQ x1 (8 : Int32) (2 : Int32) _ hf
theorem bz_readOf_E {r : Int32} {τ : MS} {n : Nat} {x1 : Int32} {σ : MS} (hf : f_readOf n x1 σ = some (r, τ)) : r = 0 ∨ r = 1 := by
  unfold f_readOf at hf
  by_cases c1 : x1 = (18 : Int32)
  · have hf := pf_t c1 hf
    by_cases c3 : x1 = (18 : Int32)
    · have hf := pf_t c3 hf
      exact bz_readOf_28 hf
    · have hf := pf_f c3 hf
      exact bz_readOf_28 hf
  · have hf := pf_f c1 hf
    by_cases c2 : x1 = (18 : Int32)
    · have hf := pf_t c2 hf
      exact bz_readOf_28 hf
    · have hf := pf_f c2 hf
      exact bz_readOf_28 hf
theorem met_readOf {M : MT} {v : (Int32 × MS)} {n : Nat} {σ : MS} {x1 : Int32} {l : Launch} (hc : (mCl M)[mCi M]? = some (RX10, TX10, 61)) (hf : f_readOf n x1 σ = some v) : Met l yX10_readOf (ws_ yX10_readOf cX10_readOf 2 (some .boolean)) (rmD 5) (va_Pc [.ref (mO M), .int x1] (MU M σ)) (Qm M (some (.int v.1)) v.2) 0 0 (mAd M) :=
  m_met [.ref (mO M), .int x1] (by decide) rfl (Nat.le_of_ble_eq_true rfl) hc (fun K hl hR hr C B hQ => w_readOf_E _ C B hr hR hQ _ _ hf)
theorem mc_readOf {K : KT} {M : MT} {cc : ByteArray} {nL pc dk : Nat} {L : List (Nat × Value)} {rest : List Value} {σ : MS} {v : (Int32 × MS)} {n : Nat} {x1 : Int32} (C : Kok K cc nL RX10) (B : MB K M) (dK : kR K = rmD dk) (hd : 5 + 1 ≤ dk) (hf : f_readOf n x1 σ = some v) (hW : (rest.map fun v => v.category).sum ≤ 8) (dd : decode cc pc = .ok (.invokevirtual 491, 3)) (kk2 : XJ K nL (Wm K M v.2) (pc + 3) L ((.int v.1) :: rest)) : XJ K nL (Wm K M σ) pc L (.int x1 :: .ref (mO M) :: rest) :=
  m_callV (rest := rest) (v := (some (.int v.1))) [.int x1] 1 rfl C B dK hd (Nat.le_of_ble_eq_true rfl) (lw_V q2485 q2487 qs117 q133 q2488) (by decide +kernel) (met_readOf B.2 hf) rfl hW dd kk2
theorem mcr_readSaid {K : KT} {M : MT} {cc : ByteArray} {nL pc dk : Nat} {L : List (Nat × Value)} {rest : List Value} {σ : MS} {v : (Int32 × MS)} {rs : MS → Option (Int32 × MS)} {rf : Nat} (C : Kok K cc nL RX10) (B : MB K M) (hrs : ∀ (σ : MS) (v : (Int32 × MS)), rs σ = some v → Met (kL K) yX10_readSaid (ws_ yX10_readSaid cX10_readSaid 4 (some .boolean)) (rmD (6 + 5 * rf)) (va_Pc [.ref (mO M)] (MU M σ)) (Qm M (some (.int v.1)) v.2) 0 0 (mAd M)) (dK : kR K = rmD dk) (hd : (6 + 5 * rf) + 1 ≤ dk) (hf : rs σ = some v) (hW : (rest.map fun v => v.category).sum ≤ 8) (dd : decode cc pc = .ok (.invokevirtual 476, 3)) (kk2 : XJ K nL (Wm K M v.2) (pc + 3) L ((.int v.1) :: rest)) : XJ K nL (Wm K M σ) pc L (.ref (mO M) :: rest) :=
  m_callV (rest := rest) (v := (some (.int v.1))) [] 0 rfl C B dK hd (Nat.le_of_ble_eq_true rfl) (lw_V q2469 q2471 qs113 q133 q2472) (by decide +kernel) (hrs _ _ hf) rfl hW dd kk2
def f_readAnd_14 (rs : MS → Option (Int32 × MS)) (n : Nat) : Nat → Int32 → MS → Option (Int32 × MS)
  | 0, _, _ => none
  | m + 1, x1, σ => if (f_isWord σ (13 : Int32)) = 0 then (ev (si σ 60 x1) fun s2 => some ((1 : Int32), s2)) else ((f_go n σ).bind fun r3 => (rs r3).bind fun r4 => if r4.1 = 0 then (some ((0 : Int32), r4.2)) else ((f_saysOne (2 : Int32) x1 (gi r4.2 60) (0 : Int32) r4.2).bind fun r6 => f_readAnd_14 rs n m r6.1 r6.2))
set_option maxHeartbeats 4000000 in
theorem w_readAnd_14 {K : KT} {M : MT} {r : Int32} {τ : MS} (rs : MS → Option (Int32 × MS)) (n : Nat) {rf : Nat} (hrs : ∀ (σ : MS) (v : (Int32 × MS)), rs σ = some v → Met (kL K) yX10_readSaid (ws_ yX10_readSaid cX10_readSaid 4 (some .boolean)) (rmD (6 + 5 * rf)) (va_Pc [.ref (mO M)] (MU M σ)) (Qm M (some (.int v.1)) v.2) 0 0 (mAd M)) (hbz : ∀ {σ : MS} {v : (Int32 × MS)}, rs σ = some v → v.1 = 0 ∨ v.1 = 1) (C : Kok K cX10_readAnd 2 RX10) (B : MB K M) (hr : (kMe K).sig.returnType = some .boolean) (dK : kR K = rmD (6 + 5 * rf + 1)) (hQ : KQm K M (some (.int r)) τ) : ∀ (m : Nat) (x1 : Int32) (σ : MS) (hf : f_readAnd_14 rs n m x1 σ = some (r, τ)), XJ K 2 (Wm K M σ) 14 [(0, .ref (mO M)), (1, .int x1)] [] := by
  intro m
  induction m with
  | zero => intro x1 σ hf; cases hf
  | succ m ih =>
    intro x1 σ hf
    rw [f_readAnd_14] at hf
    refine x_aload_n C dX10_readAnd_14 0 rfl ?_
    refine x_bipush (13 : Int32) C dX10_readAnd_15 (by decide) ?_
    refine mc_isWord C B dK (by omega) rfl (Nat.le_of_ble_eq_true rfl) dX10_readAnd_17 ?_
    refine x_if_eq (tgt := 51) C dX10_readAnd_20 (by decide) (fun c1 => ?_) (fun c1 => ?_)
    · have hf := pf_t c1 hf
      refine x_aload_n C dX10_readAnd_51 0 rfl ?_
      refine x_iload_n C dX10_readAnd_52 1 rfl ?_
      refine mp_60 C B dX10_readAnd_53 ?_
      obtain ⟨s2, es2, hf⟩ := pf_e hf
      refine m_ren es2 ?_
      refine x_iconst (1 : Int32) C dX10_readAnd_56 (by decide) ?_
      obtain ⟨rfl, rfl⟩ := Prod.mk.inj (Option.some.inj hf)
      exact m_zret C hr (Or.inr rfl) hQ dX10_readAnd_57
    · have hf := pf_f c1 hf
      refine x_aload_n C dX10_readAnd_23 0 rfl ?_
      obtain ⟨r3, er3, hf⟩ := pf_b hf
      refine mc_go C B dK (by omega) er3 (Nat.le_of_ble_eq_true rfl) dX10_readAnd_24 ?_
      refine x_aload_n C dX10_readAnd_27 0 rfl ?_
      obtain ⟨r4, er4, hf⟩ := pf_b hf
      refine mcr_readSaid C B hrs dK (by omega) er4 (Nat.le_of_ble_eq_true rfl) dX10_readAnd_28 ?_
      refine x_if_ne (tgt := 36) C dX10_readAnd_31 (by decide) (fun c5 => ?_) (fun c5 => ?_)
      · have hf := pf_f c5 hf
        refine x_aload_n C dX10_readAnd_36 0 rfl ?_
        refine x_iconst (2 : Int32) C dX10_readAnd_37 (by decide) ?_
        refine x_iload_n C dX10_readAnd_38 1 rfl ?_
        refine x_aload_n C dX10_readAnd_39 0 rfl ?_
        refine mg_60 C B dX10_readAnd_40 ?_
        refine x_iconst (0 : Int32) C dX10_readAnd_43 (by decide) ?_
        obtain ⟨r6, er6, hf⟩ := pf_b hf
        refine mc_saysOne C B dK (by omega) er6 (Nat.le_of_ble_eq_true rfl) dX10_readAnd_44 ?_
        refine x_istore_n (L' := [(0, .ref (mO M)), (1, .int r6.1)]) C dX10_readAnd_47 (Nat.le_of_ble_eq_true rfl) [1, 0] rfl ?_
        refine x_goto (tgt := 14) C dX10_readAnd_48 (by decide) ?_
        exact ih r6.1 _ hf
      · have hf := pf_t c5 hf
        refine x_iconst (0 : Int32) C dX10_readAnd_34 (by decide) ?_
        obtain ⟨rfl, rfl⟩ := Prod.mk.inj (Option.some.inj hf)
        exact m_zret C hr (Or.inl rfl) hQ dX10_readAnd_35
theorem bz_readAnd_14 {r : Int32} {τ : MS} {rs : MS → Option (Int32 × MS)} {n : Nat} (hbz : ∀ {σ : MS} {v : (Int32 × MS)}, rs σ = some v → v.1 = 0 ∨ v.1 = 1) : ∀ (m : Nat) (x1 : Int32) (σ : MS) (hf : f_readAnd_14 rs n m x1 σ = some (r, τ)), r = 0 ∨ r = 1 := by
  intro m
  induction m with
  | zero => intro x1 σ hf; cases hf
  | succ m ih =>
    intro x1 σ hf
    rw [f_readAnd_14] at hf
    by_cases c1 : (f_isWord σ (13 : Int32)) = 0
    · have hf := pf_t c1 hf
      obtain ⟨s2, es2, hf⟩ := pf_e hf
      obtain ⟨rfl, rfl⟩ := Prod.mk.inj (Option.some.inj hf)
      exact (Or.inr rfl)
    · have hf := pf_f c1 hf
      obtain ⟨r3, er3, hf⟩ := pf_b hf
      obtain ⟨r4, er4, hf⟩ := pf_b hf
      by_cases c5 : r4.1 = 0
      · have hf := pf_t c5 hf
        obtain ⟨rfl, rfl⟩ := Prod.mk.inj (Option.some.inj hf)
        exact (Or.inl rfl)
      · have hf := pf_f c5 hf
        obtain ⟨r6, er6, hf⟩ := pf_b hf
        exact ih r6.1 _ hf
def f_readAnd (rs : MS → Option (Int32 × MS)) (n : Nat) (σ : MS) : Option (Int32 × MS) := (rs σ).bind fun r1 => if r1.1 = 0 then (some ((0 : Int32), r1.2)) else (ev (gi r1.2 60) fun v3 => f_readAnd_14 rs n n v3 r1.2)
set_option maxHeartbeats 4000000 in
theorem w_readAnd_E {K : KT} {M : MT} {r : Int32} {τ : MS} (rs : MS → Option (Int32 × MS)) (n : Nat) {rf : Nat} (hrs : ∀ (σ : MS) (v : (Int32 × MS)), rs σ = some v → Met (kL K) yX10_readSaid (ws_ yX10_readSaid cX10_readSaid 4 (some .boolean)) (rmD (6 + 5 * rf)) (va_Pc [.ref (mO M)] (MU M σ)) (Qm M (some (.int v.1)) v.2) 0 0 (mAd M)) (hbz : ∀ {σ : MS} {v : (Int32 × MS)}, rs σ = some v → v.1 = 0 ∨ v.1 = 1) (C : Kok K cX10_readAnd 2 RX10) (B : MB K M) (hr : (kMe K).sig.returnType = some .boolean) (dK : kR K = rmD (6 + 5 * rf + 1)) (hQ : KQm K M (some (.int r)) τ) (σ : MS) (hf : f_readAnd rs n σ = some (r, τ)) : XJ K 2 (Wm K M σ) 0 [(0, .ref (mO M))] [] := by
  unfold f_readAnd at hf
  refine x_aload_n C dX10_readAnd_0 0 rfl ?_
  obtain ⟨r1, er1, hf⟩ := pf_b hf
  refine mcr_readSaid C B hrs dK (by omega) er1 (Nat.le_of_ble_eq_true rfl) dX10_readAnd_1 ?_
  refine x_if_ne (tgt := 9) C dX10_readAnd_4 (by decide) (fun c2 => ?_) (fun c2 => ?_)
  · have hf := pf_f c2 hf
    refine x_aload_n C dX10_readAnd_9 0 rfl ?_
    refine mg_60 C B dX10_readAnd_10 ?_
    obtain ⟨v3, ev3, hf⟩ := pf_e hf
    refine x_topir ev3 ?_
    refine x_istore_n (L' := [(0, .ref (mO M)), (1, .int v3)]) C dX10_readAnd_13 (Nat.le_of_ble_eq_true rfl) [1, 0] rfl ?_
    exact w_readAnd_14 rs n hrs hbz C B hr dK hQ n v3 _ hf
  · have hf := pf_t c2 hf
    refine x_iconst (0 : Int32) C dX10_readAnd_7 (by decide) ?_
    obtain ⟨rfl, rfl⟩ := Prod.mk.inj (Option.some.inj hf)
    exact m_zret C hr (Or.inl rfl) hQ dX10_readAnd_8
theorem bz_readAnd_E {r : Int32} {τ : MS} {rs : MS → Option (Int32 × MS)} {n : Nat} (hbz : ∀ {σ : MS} {v : (Int32 × MS)}, rs σ = some v → v.1 = 0 ∨ v.1 = 1) {σ : MS} (hf : f_readAnd rs n σ = some (r, τ)) : r = 0 ∨ r = 1 := by
  unfold f_readAnd at hf
  obtain ⟨r1, er1, hf⟩ := pf_b hf
  by_cases c2 : r1.1 = 0
  · have hf := pf_t c2 hf
    obtain ⟨rfl, rfl⟩ := Prod.mk.inj (Option.some.inj hf)
    exact (Or.inl rfl)
  · have hf := pf_f c2 hf
    obtain ⟨v3, ev3, hf⟩ := pf_e hf
    exact bz_readAnd_14 hbz n v3 _ hf
theorem met_readAnd {M : MT} {v : (Int32 × MS)} {rs : MS → Option (Int32 × MS)} {n : Nat} {σ : MS} {rf : Nat} {l : Launch} (hrs : ∀ (σ : MS) (v : (Int32 × MS)), rs σ = some v → Met l yX10_readSaid (ws_ yX10_readSaid cX10_readSaid 4 (some .boolean)) (rmD (6 + 5 * rf)) (va_Pc [.ref (mO M)] (MU M σ)) (Qm M (some (.int v.1)) v.2) 0 0 (mAd M)) (hbz : ∀ {σ : MS} {v : (Int32 × MS)}, rs σ = some v → v.1 = 0 ∨ v.1 = 1) (hc : (mCl M)[mCi M]? = some (RX10, TX10, 61)) (hf : f_readAnd rs n σ = some v) : Met l yX10_readAnd (ws_ yX10_readAnd cX10_readAnd 2 (some .boolean)) (rmD (6 + 5 * rf + 1)) (va_Pc [.ref (mO M)] (MU M σ)) (Qm M (some (.int v.1)) v.2) 0 0 (mAd M) :=
  m_met [.ref (mO M)] (by decide) rfl (Nat.le_of_ble_eq_true rfl) hc (fun K hl hR hr C B hQ => w_readAnd_E _ _ (hl ▸ hrs) hbz C B hr hR hQ _ hf)
theorem mc_readAnd {K : KT} {M : MT} {cc : ByteArray} {nL pc dk : Nat} {L : List (Nat × Value)} {rest : List Value} {σ : MS} {v : (Int32 × MS)} {rs : MS → Option (Int32 × MS)} {n : Nat} {rf : Nat} (C : Kok K cc nL RX10) (B : MB K M) (hrs : ∀ (σ : MS) (v : (Int32 × MS)), rs σ = some v → Met (kL K) yX10_readSaid (ws_ yX10_readSaid cX10_readSaid 4 (some .boolean)) (rmD (6 + 5 * rf)) (va_Pc [.ref (mO M)] (MU M σ)) (Qm M (some (.int v.1)) v.2) 0 0 (mAd M)) (hbz : ∀ {σ : MS} {v : (Int32 × MS)}, rs σ = some v → v.1 = 0 ∨ v.1 = 1) (dK : kR K = rmD dk) (hd : (6 + 5 * rf + 1) + 1 ≤ dk) (hf : f_readAnd rs n σ = some v) (hW : (rest.map fun v => v.category).sum ≤ 8) (dd : decode cc pc = .ok (.invokevirtual 466, 3)) (kk2 : XJ K nL (Wm K M v.2) (pc + 3) L ((.int v.1) :: rest)) : XJ K nL (Wm K M σ) pc L (.ref (mO M) :: rest) :=
  m_callV (rest := rest) (v := (some (.int v.1))) [] 0 rfl C B dK hd (Nat.le_of_ble_eq_true rfl) (lw_V q2465 q2467 qs112 q133 q2468) (by decide +kernel) (met_readAnd hrs hbz B.2 hf) rfl hW dd kk2
def f_readOr_14 (rs : MS → Option (Int32 × MS)) (n : Nat) : Nat → Int32 → MS → Option (Int32 × MS)
  | 0, _, _ => none
  | m + 1, x1, σ => if (f_isWord σ (12 : Int32)) = 0 then (ev (si σ 60 x1) fun s2 => some ((1 : Int32), s2)) else ((f_go n σ).bind fun r3 => (f_readAnd rs n r3).bind fun r4 => if r4.1 = 0 then (some ((0 : Int32), r4.2)) else ((f_saysOne (3 : Int32) x1 (gi r4.2 60) (0 : Int32) r4.2).bind fun r6 => f_readOr_14 rs n m r6.1 r6.2))
set_option maxHeartbeats 4000000 in
theorem w_readOr_14 {K : KT} {M : MT} {r : Int32} {τ : MS} (rs : MS → Option (Int32 × MS)) (n : Nat) {rf : Nat} (hrs : ∀ (σ : MS) (v : (Int32 × MS)), rs σ = some v → Met (kL K) yX10_readSaid (ws_ yX10_readSaid cX10_readSaid 4 (some .boolean)) (rmD (6 + 5 * rf)) (va_Pc [.ref (mO M)] (MU M σ)) (Qm M (some (.int v.1)) v.2) 0 0 (mAd M)) (hbz : ∀ {σ : MS} {v : (Int32 × MS)}, rs σ = some v → v.1 = 0 ∨ v.1 = 1) (C : Kok K cX10_readOr 2 RX10) (B : MB K M) (hr : (kMe K).sig.returnType = some .boolean) (dK : kR K = rmD (6 + 5 * rf + 2)) (hQ : KQm K M (some (.int r)) τ) : ∀ (m : Nat) (x1 : Int32) (σ : MS) (hf : f_readOr_14 rs n m x1 σ = some (r, τ)), XJ K 2 (Wm K M σ) 14 [(0, .ref (mO M)), (1, .int x1)] [] := by
  intro m
  induction m with
  | zero => intro x1 σ hf; cases hf
  | succ m ih =>
    intro x1 σ hf
    rw [f_readOr_14] at hf
    refine x_aload_n C dX10_readOr_14 0 rfl ?_
    refine x_bipush (12 : Int32) C dX10_readOr_15 (by decide) ?_
    refine mc_isWord C B dK (by omega) rfl (Nat.le_of_ble_eq_true rfl) dX10_readOr_17 ?_
    refine x_if_eq (tgt := 51) C dX10_readOr_20 (by decide) (fun c1 => ?_) (fun c1 => ?_)
    · have hf := pf_t c1 hf
      refine x_aload_n C dX10_readOr_51 0 rfl ?_
      refine x_iload_n C dX10_readOr_52 1 rfl ?_
      refine mp_60 C B dX10_readOr_53 ?_
      obtain ⟨s2, es2, hf⟩ := pf_e hf
      refine m_ren es2 ?_
      refine x_iconst (1 : Int32) C dX10_readOr_56 (by decide) ?_
      obtain ⟨rfl, rfl⟩ := Prod.mk.inj (Option.some.inj hf)
      exact m_zret C hr (Or.inr rfl) hQ dX10_readOr_57
    · have hf := pf_f c1 hf
      refine x_aload_n C dX10_readOr_23 0 rfl ?_
      obtain ⟨r3, er3, hf⟩ := pf_b hf
      refine mc_go C B dK (by omega) er3 (Nat.le_of_ble_eq_true rfl) dX10_readOr_24 ?_
      refine x_aload_n C dX10_readOr_27 0 rfl ?_
      obtain ⟨r4, er4, hf⟩ := pf_b hf
      refine mc_readAnd C B hrs hbz dK (by omega) er4 (Nat.le_of_ble_eq_true rfl) dX10_readOr_28 ?_
      refine x_if_ne (tgt := 36) C dX10_readOr_31 (by decide) (fun c5 => ?_) (fun c5 => ?_)
      · have hf := pf_f c5 hf
        refine x_aload_n C dX10_readOr_36 0 rfl ?_
        refine x_iconst (3 : Int32) C dX10_readOr_37 (by decide) ?_
        refine x_iload_n C dX10_readOr_38 1 rfl ?_
        refine x_aload_n C dX10_readOr_39 0 rfl ?_
        refine mg_60 C B dX10_readOr_40 ?_
        refine x_iconst (0 : Int32) C dX10_readOr_43 (by decide) ?_
        obtain ⟨r6, er6, hf⟩ := pf_b hf
        refine mc_saysOne C B dK (by omega) er6 (Nat.le_of_ble_eq_true rfl) dX10_readOr_44 ?_
        refine x_istore_n (L' := [(0, .ref (mO M)), (1, .int r6.1)]) C dX10_readOr_47 (Nat.le_of_ble_eq_true rfl) [1, 0] rfl ?_
        refine x_goto (tgt := 14) C dX10_readOr_48 (by decide) ?_
        exact ih r6.1 _ hf
      · have hf := pf_t c5 hf
        refine x_iconst (0 : Int32) C dX10_readOr_34 (by decide) ?_
        obtain ⟨rfl, rfl⟩ := Prod.mk.inj (Option.some.inj hf)
        exact m_zret C hr (Or.inl rfl) hQ dX10_readOr_35
theorem bz_readOr_14 {r : Int32} {τ : MS} {rs : MS → Option (Int32 × MS)} {n : Nat} (hbz : ∀ {σ : MS} {v : (Int32 × MS)}, rs σ = some v → v.1 = 0 ∨ v.1 = 1) : ∀ (m : Nat) (x1 : Int32) (σ : MS) (hf : f_readOr_14 rs n m x1 σ = some (r, τ)), r = 0 ∨ r = 1 := by
  intro m
  induction m with
  | zero => intro x1 σ hf; cases hf
  | succ m ih =>
    intro x1 σ hf
    rw [f_readOr_14] at hf
    by_cases c1 : (f_isWord σ (12 : Int32)) = 0
    · have hf := pf_t c1 hf
      obtain ⟨s2, es2, hf⟩ := pf_e hf
      obtain ⟨rfl, rfl⟩ := Prod.mk.inj (Option.some.inj hf)
      exact (Or.inr rfl)
    · have hf := pf_f c1 hf
      obtain ⟨r3, er3, hf⟩ := pf_b hf
      obtain ⟨r4, er4, hf⟩ := pf_b hf
      by_cases c5 : r4.1 = 0
      · have hf := pf_t c5 hf
        obtain ⟨rfl, rfl⟩ := Prod.mk.inj (Option.some.inj hf)
        exact (Or.inl rfl)
      · have hf := pf_f c5 hf
        obtain ⟨r6, er6, hf⟩ := pf_b hf
        exact ih r6.1 _ hf
def f_readOr (rs : MS → Option (Int32 × MS)) (n : Nat) (σ : MS) : Option (Int32 × MS) := (f_readAnd rs n σ).bind fun r1 => if r1.1 = 0 then (some ((0 : Int32), r1.2)) else (ev (gi r1.2 60) fun v3 => f_readOr_14 rs n n v3 r1.2)
set_option maxHeartbeats 4000000 in
theorem w_readOr_E {K : KT} {M : MT} {r : Int32} {τ : MS} (rs : MS → Option (Int32 × MS)) (n : Nat) {rf : Nat} (hrs : ∀ (σ : MS) (v : (Int32 × MS)), rs σ = some v → Met (kL K) yX10_readSaid (ws_ yX10_readSaid cX10_readSaid 4 (some .boolean)) (rmD (6 + 5 * rf)) (va_Pc [.ref (mO M)] (MU M σ)) (Qm M (some (.int v.1)) v.2) 0 0 (mAd M)) (hbz : ∀ {σ : MS} {v : (Int32 × MS)}, rs σ = some v → v.1 = 0 ∨ v.1 = 1) (C : Kok K cX10_readOr 2 RX10) (B : MB K M) (hr : (kMe K).sig.returnType = some .boolean) (dK : kR K = rmD (6 + 5 * rf + 2)) (hQ : KQm K M (some (.int r)) τ) (σ : MS) (hf : f_readOr rs n σ = some (r, τ)) : XJ K 2 (Wm K M σ) 0 [(0, .ref (mO M))] [] := by
  unfold f_readOr at hf
  refine x_aload_n C dX10_readOr_0 0 rfl ?_
  obtain ⟨r1, er1, hf⟩ := pf_b hf
  refine mc_readAnd C B hrs hbz dK (by omega) er1 (Nat.le_of_ble_eq_true rfl) dX10_readOr_1 ?_
  refine x_if_ne (tgt := 9) C dX10_readOr_4 (by decide) (fun c2 => ?_) (fun c2 => ?_)
  · have hf := pf_f c2 hf
    refine x_aload_n C dX10_readOr_9 0 rfl ?_
    refine mg_60 C B dX10_readOr_10 ?_
    obtain ⟨v3, ev3, hf⟩ := pf_e hf
    refine x_topir ev3 ?_
    refine x_istore_n (L' := [(0, .ref (mO M)), (1, .int v3)]) C dX10_readOr_13 (Nat.le_of_ble_eq_true rfl) [1, 0] rfl ?_
    exact w_readOr_14 rs n hrs hbz C B hr dK hQ n v3 _ hf
  · have hf := pf_t c2 hf
    refine x_iconst (0 : Int32) C dX10_readOr_7 (by decide) ?_
    obtain ⟨rfl, rfl⟩ := Prod.mk.inj (Option.some.inj hf)
    exact m_zret C hr (Or.inl rfl) hQ dX10_readOr_8
theorem bz_readOr_E {r : Int32} {τ : MS} {rs : MS → Option (Int32 × MS)} {n : Nat} (hbz : ∀ {σ : MS} {v : (Int32 × MS)}, rs σ = some v → v.1 = 0 ∨ v.1 = 1) {σ : MS} (hf : f_readOr rs n σ = some (r, τ)) : r = 0 ∨ r = 1 := by
  unfold f_readOr at hf
  obtain ⟨r1, er1, hf⟩ := pf_b hf
  by_cases c2 : r1.1 = 0
  · have hf := pf_t c2 hf
    obtain ⟨rfl, rfl⟩ := Prod.mk.inj (Option.some.inj hf)
    exact (Or.inl rfl)
  · have hf := pf_f c2 hf
    obtain ⟨v3, ev3, hf⟩ := pf_e hf
    exact bz_readOr_14 hbz n v3 _ hf
theorem met_readOr {M : MT} {v : (Int32 × MS)} {rs : MS → Option (Int32 × MS)} {n : Nat} {σ : MS} {rf : Nat} {l : Launch} (hrs : ∀ (σ : MS) (v : (Int32 × MS)), rs σ = some v → Met l yX10_readSaid (ws_ yX10_readSaid cX10_readSaid 4 (some .boolean)) (rmD (6 + 5 * rf)) (va_Pc [.ref (mO M)] (MU M σ)) (Qm M (some (.int v.1)) v.2) 0 0 (mAd M)) (hbz : ∀ {σ : MS} {v : (Int32 × MS)}, rs σ = some v → v.1 = 0 ∨ v.1 = 1) (hc : (mCl M)[mCi M]? = some (RX10, TX10, 61)) (hf : f_readOr rs n σ = some v) : Met l yX10_readOr (ws_ yX10_readOr cX10_readOr 2 (some .boolean)) (rmD (6 + 5 * rf + 2)) (va_Pc [.ref (mO M)] (MU M σ)) (Qm M (some (.int v.1)) v.2) 0 0 (mAd M) :=
  m_met [.ref (mO M)] (by decide) rfl (Nat.le_of_ble_eq_true rfl) hc (fun K hl hR hr C B hQ => w_readOr_E _ _ (hl ▸ hrs) hbz C B hr hR hQ _ hf)
theorem mc_readOr {K : KT} {M : MT} {cc : ByteArray} {nL pc dk : Nat} {L : List (Nat × Value)} {rest : List Value} {σ : MS} {v : (Int32 × MS)} {rs : MS → Option (Int32 × MS)} {n : Nat} {rf : Nat} (C : Kok K cc nL RX10) (B : MB K M) (hrs : ∀ (σ : MS) (v : (Int32 × MS)), rs σ = some v → Met (kL K) yX10_readSaid (ws_ yX10_readSaid cX10_readSaid 4 (some .boolean)) (rmD (6 + 5 * rf)) (va_Pc [.ref (mO M)] (MU M σ)) (Qm M (some (.int v.1)) v.2) 0 0 (mAd M)) (hbz : ∀ {σ : MS} {v : (Int32 × MS)}, rs σ = some v → v.1 = 0 ∨ v.1 = 1) (dK : kR K = rmD dk) (hd : (6 + 5 * rf + 2) + 1 ≤ dk) (hf : f_readOr rs n σ = some v) (hW : (rest.map fun v => v.category).sum ≤ 8) (dd : decode cc pc = .ok (.invokevirtual 497, 3)) (kk2 : XJ K nL (Wm K M v.2) (pc + 3) L ((.int v.1) :: rest)) : XJ K nL (Wm K M σ) pc L (.ref (mO M) :: rest) :=
  m_callV (rest := rest) (v := (some (.int v.1))) [] 0 rfl C B dK hd (Nat.le_of_ble_eq_true rfl) (lw_V q2461 q2463 qs111 q133 q2464) (by decide +kernel) (met_readOr hrs hbz B.2 hf) rfl hW dd kk2
def f_readBracket (rs : MS → Option (Int32 × MS)) (n : Nat) (σ : MS) : Option (Int32 × MS) := (f_readOr rs n σ).bind fun r1 => if r1.1 = 0 then (some ((0 : Int32), r1.2)) else (if (f_isSign r1.2 (41 : Int32)) = 0 then (ev (f_bad (1 : Int32) r1.2) fun r5 => some (r5.1, r5.2)) else ((f_go n r1.2).bind fun r4 => some ((1 : Int32), r4)))
set_option maxHeartbeats 4000000 in
theorem w_readBracket_E {K : KT} {M : MT} {r : Int32} {τ : MS} (rs : MS → Option (Int32 × MS)) (n : Nat) {rf : Nat} (hrs : ∀ (σ : MS) (v : (Int32 × MS)), rs σ = some v → Met (kL K) yX10_readSaid (ws_ yX10_readSaid cX10_readSaid 4 (some .boolean)) (rmD (6 + 5 * rf)) (va_Pc [.ref (mO M)] (MU M σ)) (Qm M (some (.int v.1)) v.2) 0 0 (mAd M)) (hbz : ∀ {σ : MS} {v : (Int32 × MS)}, rs σ = some v → v.1 = 0 ∨ v.1 = 1) (C : Kok K cX10_readBracket 1 RX10) (B : MB K M) (hr : (kMe K).sig.returnType = some .boolean) (dK : kR K = rmD (6 + 5 * rf + 3)) (hQ : KQm K M (some (.int r)) τ) (σ : MS) (hf : f_readBracket rs n σ = some (r, τ)) : XJ K 1 (Wm K M σ) 0 [(0, .ref (mO M))] [] := by
  unfold f_readBracket at hf
  refine x_aload_n C dX10_readBracket_0 0 rfl ?_
  obtain ⟨r1, er1, hf⟩ := pf_b hf
  refine mc_readOr C B hrs hbz dK (by omega) er1 (Nat.le_of_ble_eq_true rfl) dX10_readBracket_1 ?_
  refine x_if_ne (tgt := 9) C dX10_readBracket_4 (by decide) (fun c2 => ?_) (fun c2 => ?_)
  · have hf := pf_f c2 hf
    refine x_aload_n C dX10_readBracket_9 0 rfl ?_
    refine x_bipush (41 : Int32) C dX10_readBracket_10 (by decide) ?_
    refine mc_isSign C B dK (by omega) rfl (Nat.le_of_ble_eq_true rfl) dX10_readBracket_12 ?_
    refine x_if_ne (tgt := 24) C dX10_readBracket_15 (by decide) (fun c3 => ?_) (fun c3 => ?_)
    · have hf := pf_f c3 hf
      refine x_aload_n C dX10_readBracket_24 0 rfl ?_
      obtain ⟨r4, er4, hf⟩ := pf_b hf
      refine mc_go C B dK (by omega) er4 (Nat.le_of_ble_eq_true rfl) dX10_readBracket_25 ?_
      refine x_iconst (1 : Int32) C dX10_readBracket_28 (by decide) ?_
      obtain ⟨rfl, rfl⟩ := Prod.mk.inj (Option.some.inj hf)
      exact m_zret C hr (Or.inr rfl) hQ dX10_readBracket_29
    · have hf := pf_t c3 hf
      refine x_aload_n C dX10_readBracket_18 0 rfl ?_
      refine x_iconst (1 : Int32) C dX10_readBracket_19 (by decide) ?_
      obtain ⟨r5, er5, hf⟩ := pf_e hf
      refine mc_bad C B dK (by omega) er5.symm (Nat.le_of_ble_eq_true rfl) dX10_readBracket_20 ?_
      obtain ⟨rfl, rfl⟩ := Prod.mk.inj (Option.some.inj hf)
      exact m_zret C hr (bz_bad_E er5.symm) hQ dX10_readBracket_23
  · have hf := pf_t c2 hf
    refine x_iconst (0 : Int32) C dX10_readBracket_7 (by decide) ?_
    obtain ⟨rfl, rfl⟩ := Prod.mk.inj (Option.some.inj hf)
    exact m_zret C hr (Or.inl rfl) hQ dX10_readBracket_8
theorem bz_readBracket_E {r : Int32} {τ : MS} {rs : MS → Option (Int32 × MS)} {n : Nat} (hbz : ∀ {σ : MS} {v : (Int32 × MS)}, rs σ = some v → v.1 = 0 ∨ v.1 = 1) {σ : MS} (hf : f_readBracket rs n σ = some (r, τ)) : r = 0 ∨ r = 1 := by
  unfold f_readBracket at hf
  obtain ⟨r1, er1, hf⟩ := pf_b hf
  by_cases c2 : r1.1 = 0
  · have hf := pf_t c2 hf
    obtain ⟨rfl, rfl⟩ := Prod.mk.inj (Option.some.inj hf)
    exact (Or.inl rfl)
  · have hf := pf_f c2 hf
    by_cases c3 : (f_isSign r1.2 (41 : Int32)) = 0
    · have hf := pf_t c3 hf
      obtain ⟨r5, er5, hf⟩ := pf_e hf
      obtain ⟨rfl, rfl⟩ := Prod.mk.inj (Option.some.inj hf)
      exact (bz_bad_E er5.symm)
    · have hf := pf_f c3 hf
      obtain ⟨r4, er4, hf⟩ := pf_b hf
      obtain ⟨rfl, rfl⟩ := Prod.mk.inj (Option.some.inj hf)
      exact (Or.inr rfl)
theorem met_readBracket {M : MT} {v : (Int32 × MS)} {rs : MS → Option (Int32 × MS)} {n : Nat} {σ : MS} {rf : Nat} {l : Launch} (hrs : ∀ (σ : MS) (v : (Int32 × MS)), rs σ = some v → Met l yX10_readSaid (ws_ yX10_readSaid cX10_readSaid 4 (some .boolean)) (rmD (6 + 5 * rf)) (va_Pc [.ref (mO M)] (MU M σ)) (Qm M (some (.int v.1)) v.2) 0 0 (mAd M)) (hbz : ∀ {σ : MS} {v : (Int32 × MS)}, rs σ = some v → v.1 = 0 ∨ v.1 = 1) (hc : (mCl M)[mCi M]? = some (RX10, TX10, 61)) (hf : f_readBracket rs n σ = some v) : Met l yX10_readBracket (ws_ yX10_readBracket cX10_readBracket 1 (some .boolean)) (rmD (6 + 5 * rf + 3)) (va_Pc [.ref (mO M)] (MU M σ)) (Qm M (some (.int v.1)) v.2) 0 0 (mAd M) :=
  m_met [.ref (mO M)] (by decide) rfl (Nat.le_of_ble_eq_true rfl) hc (fun K hl hR hr C B hQ => w_readBracket_E _ _ (hl ▸ hrs) hbz C B hr hR hQ _ hf)
theorem mc_readBracket {K : KT} {M : MT} {cc : ByteArray} {nL pc dk : Nat} {L : List (Nat × Value)} {rest : List Value} {σ : MS} {v : (Int32 × MS)} {rs : MS → Option (Int32 × MS)} {n : Nat} {rf : Nat} (C : Kok K cc nL RX10) (B : MB K M) (hrs : ∀ (σ : MS) (v : (Int32 × MS)), rs σ = some v → Met (kL K) yX10_readSaid (ws_ yX10_readSaid cX10_readSaid 4 (some .boolean)) (rmD (6 + 5 * rf)) (va_Pc [.ref (mO M)] (MU M σ)) (Qm M (some (.int v.1)) v.2) 0 0 (mAd M)) (hbz : ∀ {σ : MS} {v : (Int32 × MS)}, rs σ = some v → v.1 = 0 ∨ v.1 = 1) (dK : kR K = rmD dk) (hd : (6 + 5 * rf + 3) + 1 ≤ dk) (hf : f_readBracket rs n σ = some v) (hW : (rest.map fun v => v.category).sum ≤ 8) (dd : decode cc pc = .ok (.invokevirtual 485, 3)) (kk2 : XJ K nL (Wm K M v.2) (pc + 3) L ((.int v.1) :: rest)) : XJ K nL (Wm K M σ) pc L (.ref (mO M) :: rest) :=
  m_callV (rest := rest) (v := (some (.int v.1))) [] 0 rfl C B dK hd (Nat.le_of_ble_eq_true rfl) (lw_V q2473 q2475 qs114 q133 q2476) (by decide +kernel) (met_readBracket hrs hbz B.2 hf) rfl hW dd kk2
def f_readNot (rs : MS → Option (Int32 × MS)) (n : Nat) (σ : MS) : Option (Int32 × MS) := (rs σ).bind fun r1 => if r1.1 = 0 then (some ((0 : Int32), r1.2)) else ((f_saysOne (1 : Int32) (gi r1.2 60) (0 : Int32) (0 : Int32) r1.2).bind fun r3 => ev (si r3.2 60 r3.1) fun s4 => some ((1 : Int32), s4))
set_option maxHeartbeats 4000000 in
theorem w_readNot_E {K : KT} {M : MT} {r : Int32} {τ : MS} (rs : MS → Option (Int32 × MS)) (n : Nat) {rf : Nat} (hrs : ∀ (σ : MS) (v : (Int32 × MS)), rs σ = some v → Met (kL K) yX10_readSaid (ws_ yX10_readSaid cX10_readSaid 4 (some .boolean)) (rmD (6 + 5 * rf)) (va_Pc [.ref (mO M)] (MU M σ)) (Qm M (some (.int v.1)) v.2) 0 0 (mAd M)) (hbz : ∀ {σ : MS} {v : (Int32 × MS)}, rs σ = some v → v.1 = 0 ∨ v.1 = 1) (C : Kok K cX10_readNot 1 RX10) (B : MB K M) (hr : (kMe K).sig.returnType = some .boolean) (dK : kR K = rmD (6 + 5 * rf + 1)) (hQ : KQm K M (some (.int r)) τ) (σ : MS) (hf : f_readNot rs n σ = some (r, τ)) : XJ K 1 (Wm K M σ) 0 [(0, .ref (mO M))] [] := by
  unfold f_readNot at hf
  refine x_aload_n C dX10_readNot_0 0 rfl ?_
  obtain ⟨r1, er1, hf⟩ := pf_b hf
  refine mcr_readSaid C B hrs dK (by omega) er1 (Nat.le_of_ble_eq_true rfl) dX10_readNot_1 ?_
  refine x_if_ne (tgt := 9) C dX10_readNot_4 (by decide) (fun c2 => ?_) (fun c2 => ?_)
  · have hf := pf_f c2 hf
    refine x_aload_n C dX10_readNot_9 0 rfl ?_
    refine x_aload_n C dX10_readNot_10 0 rfl ?_
    refine x_iconst (1 : Int32) C dX10_readNot_11 (by decide) ?_
    refine x_aload_n C dX10_readNot_12 0 rfl ?_
    refine mg_60 C B dX10_readNot_13 ?_
    refine x_iconst (0 : Int32) C dX10_readNot_16 (by decide) ?_
    refine x_iconst (0 : Int32) C dX10_readNot_17 (by decide) ?_
    obtain ⟨r3, er3, hf⟩ := pf_b hf
    refine mc_saysOne C B dK (by omega) er3 (Nat.le_of_ble_eq_true rfl) dX10_readNot_18 ?_
    refine mp_60 C B dX10_readNot_21 ?_
    obtain ⟨s4, es4, hf⟩ := pf_e hf
    refine m_ren es4 ?_
    refine x_iconst (1 : Int32) C dX10_readNot_24 (by decide) ?_
    obtain ⟨rfl, rfl⟩ := Prod.mk.inj (Option.some.inj hf)
    exact m_zret C hr (Or.inr rfl) hQ dX10_readNot_25
  · have hf := pf_t c2 hf
    refine x_iconst (0 : Int32) C dX10_readNot_7 (by decide) ?_
    obtain ⟨rfl, rfl⟩ := Prod.mk.inj (Option.some.inj hf)
    exact m_zret C hr (Or.inl rfl) hQ dX10_readNot_8
theorem bz_readNot_E {r : Int32} {τ : MS} {rs : MS → Option (Int32 × MS)} {n : Nat} (hbz : ∀ {σ : MS} {v : (Int32 × MS)}, rs σ = some v → v.1 = 0 ∨ v.1 = 1) {σ : MS} (hf : f_readNot rs n σ = some (r, τ)) : r = 0 ∨ r = 1 := by
  unfold f_readNot at hf
  obtain ⟨r1, er1, hf⟩ := pf_b hf
  by_cases c2 : r1.1 = 0
  · have hf := pf_t c2 hf
    obtain ⟨rfl, rfl⟩ := Prod.mk.inj (Option.some.inj hf)
    exact (Or.inl rfl)
  · have hf := pf_f c2 hf
    obtain ⟨r3, er3, hf⟩ := pf_b hf
    obtain ⟨s4, es4, hf⟩ := pf_e hf
    obtain ⟨rfl, rfl⟩ := Prod.mk.inj (Option.some.inj hf)
    exact (Or.inr rfl)
theorem met_readNot {M : MT} {v : (Int32 × MS)} {rs : MS → Option (Int32 × MS)} {n : Nat} {σ : MS} {rf : Nat} {l : Launch} (hrs : ∀ (σ : MS) (v : (Int32 × MS)), rs σ = some v → Met l yX10_readSaid (ws_ yX10_readSaid cX10_readSaid 4 (some .boolean)) (rmD (6 + 5 * rf)) (va_Pc [.ref (mO M)] (MU M σ)) (Qm M (some (.int v.1)) v.2) 0 0 (mAd M)) (hbz : ∀ {σ : MS} {v : (Int32 × MS)}, rs σ = some v → v.1 = 0 ∨ v.1 = 1) (hc : (mCl M)[mCi M]? = some (RX10, TX10, 61)) (hf : f_readNot rs n σ = some v) : Met l yX10_readNot (ws_ yX10_readNot cX10_readNot 1 (some .boolean)) (rmD (6 + 5 * rf + 1)) (va_Pc [.ref (mO M)] (MU M σ)) (Qm M (some (.int v.1)) v.2) 0 0 (mAd M) :=
  m_met [.ref (mO M)] (by decide) rfl (Nat.le_of_ble_eq_true rfl) hc (fun K hl hR hr C B hQ => w_readNot_E _ _ (hl ▸ hrs) hbz C B hr hR hQ _ hf)
theorem mc_readNot {K : KT} {M : MT} {cc : ByteArray} {nL pc dk : Nat} {L : List (Nat × Value)} {rest : List Value} {σ : MS} {v : (Int32 × MS)} {rs : MS → Option (Int32 × MS)} {n : Nat} {rf : Nat} (C : Kok K cc nL RX10) (B : MB K M) (hrs : ∀ (σ : MS) (v : (Int32 × MS)), rs σ = some v → Met (kL K) yX10_readSaid (ws_ yX10_readSaid cX10_readSaid 4 (some .boolean)) (rmD (6 + 5 * rf)) (va_Pc [.ref (mO M)] (MU M σ)) (Qm M (some (.int v.1)) v.2) 0 0 (mAd M)) (hbz : ∀ {σ : MS} {v : (Int32 × MS)}, rs σ = some v → v.1 = 0 ∨ v.1 = 1) (dK : kR K = rmD dk) (hd : (6 + 5 * rf + 1) + 1 ≤ dk) (hf : f_readNot rs n σ = some v) (hW : (rest.map fun v => v.category).sum ≤ 8) (dd : decode cc pc = .ok (.invokevirtual 488, 3)) (kk2 : XJ K nL (Wm K M v.2) (pc + 3) L ((.int v.1) :: rest)) : XJ K nL (Wm K M σ) pc L (.ref (mO M) :: rest) :=
  m_callV (rest := rest) (v := (some (.int v.1))) [] 0 rfl C B dK hd (Nat.le_of_ble_eq_true rfl) (lw_V q2477 q2479 qs115 q133 q2480) (by decide +kernel) (met_readNot hrs hbz B.2 hf) rfl hW dd kk2
def f_readSaid_46 (rs : MS → Option (Int32 × MS)) (n : Nat) (x1 : Int32) (x2 : Int32) (σ : MS) : Option (Int32 × MS) := if (gi σ 58) = (20 : Int32) then (ev (f_bad (4 : Int32) σ) fun r2 => some (r2.1, r2.2)) else (if (gi σ 59) = (8 : Int32) then (ev (f_bad (4 : Int32) σ) fun r22 => some (r22.1, r22.2)) else (ev (si σ 58 ((gi σ 58) + (1 : Int32))) fun s4 => ev (si s4 59 ((gi s4 59) + (1 : Int32))) fun s5 => (f_go n s5).bind fun r6 => if x1 = 0 then (if x2 = (14 : Int32) then ((f_readNot rs n r6).bind fun r18 => ev (si r18.2 59 ((gi r18.2 59) - (1 : Int32))) fun s19 => some (r18.1, s19)) else (if (18 : Int32) ≤ x2 then (if (20 : Int32) ≤ x2 then ((f_readCompare n x2 r6).bind fun r11 => ev (si r11.2 59 ((gi r11.2 59) - (1 : Int32))) fun s12 => some (r11.1, s12)) else ((f_readOf n x2 r6).bind fun r13 => ev (si r13.2 59 ((gi r13.2 59) - (1 : Int32))) fun s14 => some (r13.1, s14))) else ((f_saysOne ((50 : Int32) + x2) (0 : Int32) (0 : Int32) (0 : Int32) r6).bind fun r15 => ev (si r15.2 60 r15.1) fun s16 => ev (si s16 59 ((gi s16 59) - (1 : Int32))) fun s17 => some ((1 : Int32), s17)))) else ((f_readBracket rs n r6).bind fun r20 => ev (si r20.2 59 ((gi r20.2 59) - (1 : Int32))) fun s21 => some (r20.1, s21))))
set_option maxHeartbeats 4000000 in
theorem w_readSaid_46 {K : KT} {M : MT} {r : Int32} {τ : MS} (rs : MS → Option (Int32 × MS)) (n : Nat) {rf : Nat} (hrs : ∀ (σ : MS) (v : (Int32 × MS)), rs σ = some v → Met (kL K) yX10_readSaid (ws_ yX10_readSaid cX10_readSaid 4 (some .boolean)) (rmD (6 + 5 * rf)) (va_Pc [.ref (mO M)] (MU M σ)) (Qm M (some (.int v.1)) v.2) 0 0 (mAd M)) (hbz : ∀ {σ : MS} {v : (Int32 × MS)}, rs σ = some v → v.1 = 0 ∨ v.1 = 1) (C : Kok K cX10_readSaid 4 RX10) (B : MB K M) (hr : (kMe K).sig.returnType = some .boolean) (dK : kR K = rmD (6 + 5 * (rf + 1))) (hQ : KQm K M (some (.int r)) τ) (x1 : Int32) (x2 : Int32) (σ : MS) (hf : f_readSaid_46 rs n x1 x2 σ = some (r, τ)) : XJ K 4 (Wm K M σ) 46 [(0, .ref (mO M)), (1, .int x1), (2, .int x2)] [] := by
  unfold f_readSaid_46 at hf
  refine x_aload_n C dX10_readSaid_46 0 rfl ?_
  refine mg_58 C B dX10_readSaid_47 ?_
  refine x_bipush (20 : Int32) C dX10_readSaid_50 (by decide) ?_
  refine x_icmp_eq (tgt := 64) C dX10_readSaid_52 (by decide) (fun c1 => ?_) (fun c1 => ?_)
  · have hf := pf_t c1 hf
    refine x_aload_n C dX10_readSaid_64 0 rfl ?_
    refine x_iconst (4 : Int32) C dX10_readSaid_65 (by decide) ?_
    obtain ⟨r2, er2, hf⟩ := pf_e hf
    refine mc_bad C B dK (by omega) er2.symm (Nat.le_of_ble_eq_true rfl) dX10_readSaid_66 ?_
    obtain ⟨rfl, rfl⟩ := Prod.mk.inj (Option.some.inj hf)
    exact m_zret C hr (bz_bad_E er2.symm) hQ dX10_readSaid_69
  · have hf := pf_f c1 hf
    refine x_aload_n C dX10_readSaid_55 0 rfl ?_
    refine mg_59 C B dX10_readSaid_56 ?_
    refine x_bipush (8 : Int32) C dX10_readSaid_59 (by decide) ?_
    refine x_icmp_ne (tgt := 70) C dX10_readSaid_61 (by decide) (fun c3 => ?_) (fun c3 => ?_)
    · have hf := pf_f c3 hf
      refine x_aload_n C dX10_readSaid_70 0 rfl ?_
      refine x_dup C dX10_readSaid_71 rfl ?_
      refine mg_58 C B dX10_readSaid_72 ?_
      refine x_iconst (1 : Int32) C dX10_readSaid_75 (by decide) ?_
      refine x_iadd C dX10_readSaid_76 ?_
      refine mp_58 C B dX10_readSaid_77 ?_
      obtain ⟨s4, es4, hf⟩ := pf_e hf
      refine m_ren es4 ?_
      refine x_aload_n C dX10_readSaid_80 0 rfl ?_
      refine x_dup C dX10_readSaid_81 rfl ?_
      refine mg_59 C B dX10_readSaid_82 ?_
      refine x_iconst (1 : Int32) C dX10_readSaid_85 (by decide) ?_
      refine x_iadd C dX10_readSaid_86 ?_
      refine mp_59 C B dX10_readSaid_87 ?_
      obtain ⟨s5, es5, hf⟩ := pf_e hf
      refine m_ren es5 ?_
      refine x_aload_n C dX10_readSaid_90 0 rfl ?_
      obtain ⟨r6, er6, hf⟩ := pf_b hf
      refine mc_go C B dK (by omega) er6 (Nat.le_of_ble_eq_true rfl) dX10_readSaid_91 ?_
      refine x_iconst (1 : Int32) C dX10_readSaid_94 (by decide) ?_
      refine x_istore_n (L' := [(0, .ref (mO M)), (1, .int x1), (2, .int x2), (3, .int (1 : Int32))]) C dX10_readSaid_95 (Nat.le_of_ble_eq_true rfl) [1, 2, 3, 0] rfl ?_
      refine x_iload_n C dX10_readSaid_96 1 rfl ?_
      refine x_if_eq (tgt := 108) C dX10_readSaid_97 (by decide) (fun c7 => ?_) (fun c7 => ?_)
      · have hf := pf_t c7 hf
        refine x_iload_n C dX10_readSaid_108 2 rfl ?_
        refine x_bipush (14 : Int32) C dX10_readSaid_109 (by decide) ?_
        refine x_icmp_ne (tgt := 122) C dX10_readSaid_111 (by decide) (fun c8 => ?_) (fun c8 => ?_)
        · have hf := pf_f c8 hf
          refine x_iload_n C dX10_readSaid_122 2 rfl ?_
          refine x_bipush (18 : Int32) C dX10_readSaid_123 (by decide) ?_
          refine x_icmp_ge (tgt := 146) C dX10_readSaid_125 (by decide) (fun c9 => ?_) (fun c9 => ?_)
          · have hf := pf_t c9 hf
            refine x_iload_n C dX10_readSaid_146 2 rfl ?_
            refine x_bipush (20 : Int32) C dX10_readSaid_147 (by decide) ?_
            refine x_icmp_ge (tgt := 160) C dX10_readSaid_149 (by decide) (fun c10 => ?_) (fun c10 => ?_)
            · have hf := pf_t c10 hf
              refine x_aload_n C dX10_readSaid_160 0 rfl ?_
              refine x_iload_n C dX10_readSaid_161 2 rfl ?_
              obtain ⟨r11, er11, hf⟩ := pf_b hf
              refine mc_readCompare C B dK (by omega) er11 (Nat.le_of_ble_eq_true rfl) dX10_readSaid_162 ?_
              refine x_istore_n (L' := [(0, .ref (mO M)), (3, .int r11.1)]) C dX10_readSaid_165 (Nat.le_of_ble_eq_true rfl) [1, 0] rfl ?_
              refine x_aload_n C dX10_readSaid_166 0 rfl ?_
              refine x_dup C dX10_readSaid_167 rfl ?_
              refine mg_59 C B dX10_readSaid_168 ?_
              refine x_iconst (1 : Int32) C dX10_readSaid_171 (by decide) ?_
              refine x_isub C dX10_readSaid_172 ?_
              refine mp_59 C B dX10_readSaid_173 ?_
              obtain ⟨s12, es12, hf⟩ := pf_e hf
              refine m_ren es12 ?_
              refine x_iload_n C dX10_readSaid_176 1 rfl ?_
              obtain ⟨rfl, rfl⟩ := Prod.mk.inj (Option.some.inj hf)
              exact m_zret C hr (bz_readCompare_E er11) hQ dX10_readSaid_177
            · have hf := pf_f c10 hf
              refine x_aload_n C dX10_readSaid_152 0 rfl ?_
              refine x_iload_n C dX10_readSaid_153 2 rfl ?_
              obtain ⟨r13, er13, hf⟩ := pf_b hf
              refine mc_readOf C B dK (by omega) er13 (Nat.le_of_ble_eq_true rfl) dX10_readSaid_154 ?_
              refine x_goto (tgt := 165) C dX10_readSaid_157 (by decide) ?_
              refine x_istore_n (L' := [(0, .ref (mO M)), (3, .int r13.1)]) C dX10_readSaid_165 (Nat.le_of_ble_eq_true rfl) [1, 0] rfl ?_
              refine x_aload_n C dX10_readSaid_166 0 rfl ?_
              refine x_dup C dX10_readSaid_167 rfl ?_
              refine mg_59 C B dX10_readSaid_168 ?_
              refine x_iconst (1 : Int32) C dX10_readSaid_171 (by decide) ?_
              refine x_isub C dX10_readSaid_172 ?_
              refine mp_59 C B dX10_readSaid_173 ?_
              obtain ⟨s14, es14, hf⟩ := pf_e hf
              refine m_ren es14 ?_
              refine x_iload_n C dX10_readSaid_176 1 rfl ?_
              obtain ⟨rfl, rfl⟩ := Prod.mk.inj (Option.some.inj hf)
              exact m_zret C hr (bz_readOf_E er13) hQ dX10_readSaid_177
          · have hf := pf_f c9 hf
            refine x_aload_n C dX10_readSaid_128 0 rfl ?_
            refine x_aload_n C dX10_readSaid_129 0 rfl ?_
            refine x_bipush (50 : Int32) C dX10_readSaid_130 (by decide) ?_
            refine x_iload_n C dX10_readSaid_132 2 rfl ?_
            refine x_iadd C dX10_readSaid_133 ?_
            refine x_iconst (0 : Int32) C dX10_readSaid_134 (by decide) ?_
            refine x_iconst (0 : Int32) C dX10_readSaid_135 (by decide) ?_
            refine x_iconst (0 : Int32) C dX10_readSaid_136 (by decide) ?_
            obtain ⟨r15, er15, hf⟩ := pf_b hf
            refine mc_saysOne C B dK (by omega) er15 (Nat.le_of_ble_eq_true rfl) dX10_readSaid_137 ?_
            refine mp_60 C B dX10_readSaid_140 ?_
            obtain ⟨s16, es16, hf⟩ := pf_e hf
            refine m_ren es16 ?_
            refine x_goto (tgt := 166) C dX10_readSaid_143 (by decide) ?_
            refine x_aload_n C dX10_readSaid_166 0 rfl ?_
            refine x_dup C dX10_readSaid_167 rfl ?_
            refine mg_59 C B dX10_readSaid_168 ?_
            refine x_iconst (1 : Int32) C dX10_readSaid_171 (by decide) ?_
            refine x_isub C dX10_readSaid_172 ?_
            refine mp_59 C B dX10_readSaid_173 ?_
            obtain ⟨s17, es17, hf⟩ := pf_e hf
            refine m_ren es17 ?_
            refine x_iload_n C dX10_readSaid_176 3 rfl ?_
            obtain ⟨rfl, rfl⟩ := Prod.mk.inj (Option.some.inj hf)
            exact m_zret C hr (Or.inr rfl) hQ dX10_readSaid_177
        · have hf := pf_t c8 hf
          refine x_aload_n C dX10_readSaid_114 0 rfl ?_
          obtain ⟨r18, er18, hf⟩ := pf_b hf
          refine mc_readNot C B hrs hbz dK (by omega) er18 (Nat.le_of_ble_eq_true rfl) dX10_readSaid_115 ?_
          refine x_istore_n (L' := [(0, .ref (mO M)), (3, .int r18.1)]) C dX10_readSaid_118 (Nat.le_of_ble_eq_true rfl) [1, 0] rfl ?_
          refine x_goto (tgt := 166) C dX10_readSaid_119 (by decide) ?_
          refine x_aload_n C dX10_readSaid_166 0 rfl ?_
          refine x_dup C dX10_readSaid_167 rfl ?_
          refine mg_59 C B dX10_readSaid_168 ?_
          refine x_iconst (1 : Int32) C dX10_readSaid_171 (by decide) ?_
          refine x_isub C dX10_readSaid_172 ?_
          refine mp_59 C B dX10_readSaid_173 ?_
          obtain ⟨s19, es19, hf⟩ := pf_e hf
          refine m_ren es19 ?_
          refine x_iload_n C dX10_readSaid_176 1 rfl ?_
          obtain ⟨rfl, rfl⟩ := Prod.mk.inj (Option.some.inj hf)
          exact m_zret C hr (bz_readNot_E hbz er18) hQ dX10_readSaid_177
      · have hf := pf_f c7 hf
        refine x_aload_n C dX10_readSaid_100 0 rfl ?_
        obtain ⟨r20, er20, hf⟩ := pf_b hf
        refine mc_readBracket C B hrs hbz dK (by omega) er20 (Nat.le_of_ble_eq_true rfl) dX10_readSaid_101 ?_
        refine x_istore_n (L' := [(0, .ref (mO M)), (3, .int r20.1)]) C dX10_readSaid_104 (Nat.le_of_ble_eq_true rfl) [1, 0] rfl ?_
        refine x_goto (tgt := 166) C dX10_readSaid_105 (by decide) ?_
        refine x_aload_n C dX10_readSaid_166 0 rfl ?_
        refine x_dup C dX10_readSaid_167 rfl ?_
        refine mg_59 C B dX10_readSaid_168 ?_
        refine x_iconst (1 : Int32) C dX10_readSaid_171 (by decide) ?_
        refine x_isub C dX10_readSaid_172 ?_
        refine mp_59 C B dX10_readSaid_173 ?_
        obtain ⟨s21, es21, hf⟩ := pf_e hf
        refine m_ren es21 ?_
        refine x_iload_n C dX10_readSaid_176 1 rfl ?_
        obtain ⟨rfl, rfl⟩ := Prod.mk.inj (Option.some.inj hf)
        exact m_zret C hr (bz_readBracket_E hbz er20) hQ dX10_readSaid_177
    · have hf := pf_t c3 hf
      refine x_aload_n C dX10_readSaid_64 0 rfl ?_
      refine x_iconst (4 : Int32) C dX10_readSaid_65 (by decide) ?_
      obtain ⟨r22, er22, hf⟩ := pf_e hf
      refine mc_bad C B dK (by omega) er22.symm (Nat.le_of_ble_eq_true rfl) dX10_readSaid_66 ?_
      obtain ⟨rfl, rfl⟩ := Prod.mk.inj (Option.some.inj hf)
      exact m_zret C hr (bz_bad_E er22.symm) hQ dX10_readSaid_69
theorem bz_readSaid_46 {r : Int32} {τ : MS} {rs : MS → Option (Int32 × MS)} {n : Nat} (hbz : ∀ {σ : MS} {v : (Int32 × MS)}, rs σ = some v → v.1 = 0 ∨ v.1 = 1) {x1 : Int32} {x2 : Int32} {σ : MS} (hf : f_readSaid_46 rs n x1 x2 σ = some (r, τ)) : r = 0 ∨ r = 1 := by
  unfold f_readSaid_46 at hf
  by_cases c1 : (gi σ 58) = (20 : Int32)
  · have hf := pf_t c1 hf
    obtain ⟨r2, er2, hf⟩ := pf_e hf
    obtain ⟨rfl, rfl⟩ := Prod.mk.inj (Option.some.inj hf)
    exact (bz_bad_E er2.symm)
  · have hf := pf_f c1 hf
    by_cases c3 : (gi σ 59) = (8 : Int32)
    · have hf := pf_t c3 hf
      obtain ⟨r22, er22, hf⟩ := pf_e hf
      obtain ⟨rfl, rfl⟩ := Prod.mk.inj (Option.some.inj hf)
      exact (bz_bad_E er22.symm)
    · have hf := pf_f c3 hf
      obtain ⟨s4, es4, hf⟩ := pf_e hf
      obtain ⟨s5, es5, hf⟩ := pf_e hf
      obtain ⟨r6, er6, hf⟩ := pf_b hf
      by_cases c7 : x1 = 0
      · have hf := pf_t c7 hf
        by_cases c8 : x2 = (14 : Int32)
        · have hf := pf_t c8 hf
          obtain ⟨r18, er18, hf⟩ := pf_b hf
          obtain ⟨s19, es19, hf⟩ := pf_e hf
          obtain ⟨rfl, rfl⟩ := Prod.mk.inj (Option.some.inj hf)
          exact (bz_readNot_E hbz er18)
        · have hf := pf_f c8 hf
          by_cases c9 : (18 : Int32) ≤ x2
          · have hf := pf_t c9 hf
            by_cases c10 : (20 : Int32) ≤ x2
            · have hf := pf_t c10 hf
              obtain ⟨r11, er11, hf⟩ := pf_b hf
              obtain ⟨s12, es12, hf⟩ := pf_e hf
              obtain ⟨rfl, rfl⟩ := Prod.mk.inj (Option.some.inj hf)
              exact (bz_readCompare_E er11)
            · have hf := pf_f c10 hf
              obtain ⟨r13, er13, hf⟩ := pf_b hf
              obtain ⟨s14, es14, hf⟩ := pf_e hf
              obtain ⟨rfl, rfl⟩ := Prod.mk.inj (Option.some.inj hf)
              exact (bz_readOf_E er13)
          · have hf := pf_f c9 hf
            obtain ⟨r15, er15, hf⟩ := pf_b hf
            obtain ⟨s16, es16, hf⟩ := pf_e hf
            obtain ⟨s17, es17, hf⟩ := pf_e hf
            obtain ⟨rfl, rfl⟩ := Prod.mk.inj (Option.some.inj hf)
            exact (Or.inr rfl)
      · have hf := pf_f c7 hf
        obtain ⟨r20, er20, hf⟩ := pf_b hf
        obtain ⟨s21, es21, hf⟩ := pf_e hf
        obtain ⟨rfl, rfl⟩ := Prod.mk.inj (Option.some.inj hf)
        exact (bz_readBracket_E hbz er20)
def f_readSaid_10 (rs : MS → Option (Int32 × MS)) (n : Nat) : Nat → Int32 → Int32 → MS → Option (Int32 × MS)
  | 0, _, _, _ => none
  | m + 1, x1, x2, σ => if (23 : Int32) < x2 then (if x1 = 0 then (if x2 ≤ (23 : Int32) then (f_readSaid_46 rs n x1 x2 σ) else (ev (f_bad (1 : Int32) σ) fun r4 => some (r4.1, r4.2))) else (f_readSaid_46 rs n x1 x2 σ)) else (if (f_isWord σ x2) = 0 then (f_readSaid_10 rs n m x1 (x2 + (1 : Int32)) σ) else (if x1 = 0 then (if x2 ≤ (23 : Int32) then (f_readSaid_46 rs n x1 x2 σ) else (ev (f_bad (1 : Int32) σ) fun r8 => some (r8.1, r8.2))) else (f_readSaid_46 rs n x1 x2 σ)))
set_option maxHeartbeats 4000000 in
theorem w_readSaid_10 {K : KT} {M : MT} {r : Int32} {τ : MS} (rs : MS → Option (Int32 × MS)) (n : Nat) {rf : Nat} (hrs : ∀ (σ : MS) (v : (Int32 × MS)), rs σ = some v → Met (kL K) yX10_readSaid (ws_ yX10_readSaid cX10_readSaid 4 (some .boolean)) (rmD (6 + 5 * rf)) (va_Pc [.ref (mO M)] (MU M σ)) (Qm M (some (.int v.1)) v.2) 0 0 (mAd M)) (hbz : ∀ {σ : MS} {v : (Int32 × MS)}, rs σ = some v → v.1 = 0 ∨ v.1 = 1) (C : Kok K cX10_readSaid 4 RX10) (B : MB K M) (hr : (kMe K).sig.returnType = some .boolean) (dK : kR K = rmD (6 + 5 * (rf + 1))) (hQ : KQm K M (some (.int r)) τ) : ∀ (m : Nat) (x1 : Int32) (x2 : Int32) (σ : MS) (hf : f_readSaid_10 rs n m x1 x2 σ = some (r, τ)), XJ K 4 (Wm K M σ) 10 [(0, .ref (mO M)), (1, .int x1), (2, .int x2)] [] := by
  intro m
  induction m with
  | zero => intro x1 x2 σ hf; cases hf
  | succ m ih =>
    intro x1 x2 σ hf
    rw [f_readSaid_10] at hf
    refine x_iload_n C dX10_readSaid_10 2 rfl ?_
    refine x_bipush (23 : Int32) C dX10_readSaid_11 (by decide) ?_
    refine x_icmp_gt (tgt := 30) C dX10_readSaid_13 (by decide) (fun c1 => ?_) (fun c1 => ?_)
    · have hf := pf_t c1 hf
      refine x_iload_n C dX10_readSaid_30 1 rfl ?_
      refine x_if_ne (tgt := 46) C dX10_readSaid_31 (by decide) (fun c2 => ?_) (fun c2 => ?_)
      · have hf := pf_f c2 hf
        exact w_readSaid_46 rs n hrs hbz C B hr dK hQ x1 x2 _ hf
      · have hf := pf_t c2 hf
        refine x_iload_n C dX10_readSaid_34 2 rfl ?_
        refine x_bipush (23 : Int32) C dX10_readSaid_35 (by decide) ?_
        refine x_icmp_le (tgt := 46) C dX10_readSaid_37 (by decide) (fun c3 => ?_) (fun c3 => ?_)
        · have hf := pf_t c3 hf
          exact w_readSaid_46 rs n hrs hbz C B hr dK hQ x1 x2 _ hf
        · have hf := pf_f c3 hf
          refine x_aload_n C dX10_readSaid_40 0 rfl ?_
          refine x_iconst (1 : Int32) C dX10_readSaid_41 (by decide) ?_
          obtain ⟨r4, er4, hf⟩ := pf_e hf
          refine mc_bad C B dK (by omega) er4.symm (Nat.le_of_ble_eq_true rfl) dX10_readSaid_42 ?_
          obtain ⟨rfl, rfl⟩ := Prod.mk.inj (Option.some.inj hf)
          exact m_zret C hr (bz_bad_E er4.symm) hQ dX10_readSaid_45
    · have hf := pf_f c1 hf
      refine x_aload_n C dX10_readSaid_16 0 rfl ?_
      refine x_iload_n C dX10_readSaid_17 2 rfl ?_
      refine mc_isWord C B dK (by omega) rfl (Nat.le_of_ble_eq_true rfl) dX10_readSaid_18 ?_
      refine x_if_ne (tgt := 30) C dX10_readSaid_21 (by decide) (fun c5 => ?_) (fun c5 => ?_)
      · have hf := pf_f c5 hf
        refine x_iload_n C dX10_readSaid_30 1 rfl ?_
        refine x_if_ne (tgt := 46) C dX10_readSaid_31 (by decide) (fun c6 => ?_) (fun c6 => ?_)
        · have hf := pf_f c6 hf
          exact w_readSaid_46 rs n hrs hbz C B hr dK hQ x1 x2 _ hf
        · have hf := pf_t c6 hf
          refine x_iload_n C dX10_readSaid_34 2 rfl ?_
          refine x_bipush (23 : Int32) C dX10_readSaid_35 (by decide) ?_
          refine x_icmp_le (tgt := 46) C dX10_readSaid_37 (by decide) (fun c7 => ?_) (fun c7 => ?_)
          · have hf := pf_t c7 hf
            exact w_readSaid_46 rs n hrs hbz C B hr dK hQ x1 x2 _ hf
          · have hf := pf_f c7 hf
            refine x_aload_n C dX10_readSaid_40 0 rfl ?_
            refine x_iconst (1 : Int32) C dX10_readSaid_41 (by decide) ?_
            obtain ⟨r8, er8, hf⟩ := pf_e hf
            refine mc_bad C B dK (by omega) er8.symm (Nat.le_of_ble_eq_true rfl) dX10_readSaid_42 ?_
            obtain ⟨rfl, rfl⟩ := Prod.mk.inj (Option.some.inj hf)
            exact m_zret C hr (bz_bad_E er8.symm) hQ dX10_readSaid_45
      · have hf := pf_t c5 hf
        refine x_inc (c := (1 : Int32)) (L' := [(0, .ref (mO M)), (1, .int x1), (2, .int (x2 + (1 : Int32)))]) C dX10_readSaid_24 2 rfl (by decide) (Nat.le_of_ble_eq_true rfl) [1, 2, 0] rfl ?_
        refine x_goto (tgt := 10) C dX10_readSaid_27 (by decide) ?_
        exact ih x1 (x2 + (1 : Int32)) _ hf
theorem bz_readSaid_10 {r : Int32} {τ : MS} {rs : MS → Option (Int32 × MS)} {n : Nat} (hbz : ∀ {σ : MS} {v : (Int32 × MS)}, rs σ = some v → v.1 = 0 ∨ v.1 = 1) : ∀ (m : Nat) (x1 : Int32) (x2 : Int32) (σ : MS) (hf : f_readSaid_10 rs n m x1 x2 σ = some (r, τ)), r = 0 ∨ r = 1 := by
  intro m
  induction m with
  | zero => intro x1 x2 σ hf; cases hf
  | succ m ih =>
    intro x1 x2 σ hf
    rw [f_readSaid_10] at hf
    by_cases c1 : (23 : Int32) < x2
    · have hf := pf_t c1 hf
      by_cases c2 : x1 = 0
      · have hf := pf_t c2 hf
        by_cases c3 : x2 ≤ (23 : Int32)
        · have hf := pf_t c3 hf
          exact bz_readSaid_46 hbz hf
        · have hf := pf_f c3 hf
          obtain ⟨r4, er4, hf⟩ := pf_e hf
          obtain ⟨rfl, rfl⟩ := Prod.mk.inj (Option.some.inj hf)
          exact (bz_bad_E er4.symm)
      · have hf := pf_f c2 hf
        exact bz_readSaid_46 hbz hf
    · have hf := pf_f c1 hf
      by_cases c5 : (f_isWord σ x2) = 0
      · have hf := pf_t c5 hf
        exact ih x1 (x2 + (1 : Int32)) _ hf
      · have hf := pf_f c5 hf
        by_cases c6 : x1 = 0
        · have hf := pf_t c6 hf
          by_cases c7 : x2 ≤ (23 : Int32)
          · have hf := pf_t c7 hf
            exact bz_readSaid_46 hbz hf
          · have hf := pf_f c7 hf
            obtain ⟨r8, er8, hf⟩ := pf_e hf
            obtain ⟨rfl, rfl⟩ := Prod.mk.inj (Option.some.inj hf)
            exact (bz_bad_E er8.symm)
        · have hf := pf_f c6 hf
          exact bz_readSaid_46 hbz hf
def g_readSaid (rs : MS → Option (Int32 × MS)) (n : Nat) (σ : MS) : Option (Int32 × MS) := ev (f_isSign σ (40 : Int32)) fun v1 => f_readSaid_10 rs n n v1 (14 : Int32) σ
set_option maxHeartbeats 4000000 in
theorem w_readSaid_E {K : KT} {M : MT} {r : Int32} {τ : MS} (rs : MS → Option (Int32 × MS)) (n : Nat) {rf : Nat} (hrs : ∀ (σ : MS) (v : (Int32 × MS)), rs σ = some v → Met (kL K) yX10_readSaid (ws_ yX10_readSaid cX10_readSaid 4 (some .boolean)) (rmD (6 + 5 * rf)) (va_Pc [.ref (mO M)] (MU M σ)) (Qm M (some (.int v.1)) v.2) 0 0 (mAd M)) (hbz : ∀ {σ : MS} {v : (Int32 × MS)}, rs σ = some v → v.1 = 0 ∨ v.1 = 1) (C : Kok K cX10_readSaid 4 RX10) (B : MB K M) (hr : (kMe K).sig.returnType = some .boolean) (dK : kR K = rmD (6 + 5 * (rf + 1))) (hQ : KQm K M (some (.int r)) τ) (σ : MS) (hf : g_readSaid rs n σ = some (r, τ)) : XJ K 4 (Wm K M σ) 0 [(0, .ref (mO M))] [] := by
  unfold g_readSaid at hf
  refine x_aload_n C dX10_readSaid_0 0 rfl ?_
  refine x_bipush (40 : Int32) C dX10_readSaid_1 (by decide) ?_
  refine mc_isSign C B dK (by omega) rfl (Nat.le_of_ble_eq_true rfl) dX10_readSaid_3 ?_
  obtain ⟨v1, ev1, hf⟩ := pf_e hf
  refine x_topir ev1 ?_
  refine x_istore_n (L' := [(0, .ref (mO M)), (1, .int v1)]) C dX10_readSaid_6 (Nat.le_of_ble_eq_true rfl) [1, 0] rfl ?_
  refine x_bipush (14 : Int32) C dX10_readSaid_7 (by decide) ?_
  refine x_istore_n (L' := [(0, .ref (mO M)), (1, .int v1), (2, .int (14 : Int32))]) C dX10_readSaid_9 (Nat.le_of_ble_eq_true rfl) [1, 2, 0] rfl ?_
  exact w_readSaid_10 rs n hrs hbz C B hr dK hQ n v1 (14 : Int32) _ hf
theorem bz_readSaid_E {r : Int32} {τ : MS} {rs : MS → Option (Int32 × MS)} {n : Nat} (hbz : ∀ {σ : MS} {v : (Int32 × MS)}, rs σ = some v → v.1 = 0 ∨ v.1 = 1) {σ : MS} (hf : g_readSaid rs n σ = some (r, τ)) : r = 0 ∨ r = 1 := by
  unfold g_readSaid at hf
  obtain ⟨v1, ev1, hf⟩ := pf_e hf
  exact bz_readSaid_10 hbz n v1 (14 : Int32) _ hf
theorem metg_readSaid {M : MT} {v : (Int32 × MS)} {rs : MS → Option (Int32 × MS)} {n : Nat} {σ : MS} {rf : Nat} {l : Launch} (hrs : ∀ (σ : MS) (v : (Int32 × MS)), rs σ = some v → Met l yX10_readSaid (ws_ yX10_readSaid cX10_readSaid 4 (some .boolean)) (rmD (6 + 5 * rf)) (va_Pc [.ref (mO M)] (MU M σ)) (Qm M (some (.int v.1)) v.2) 0 0 (mAd M)) (hbz : ∀ {σ : MS} {v : (Int32 × MS)}, rs σ = some v → v.1 = 0 ∨ v.1 = 1) (hc : (mCl M)[mCi M]? = some (RX10, TX10, 61)) (hf : g_readSaid rs n σ = some v) : Met l yX10_readSaid (ws_ yX10_readSaid cX10_readSaid 4 (some .boolean)) (rmD (6 + 5 * (rf + 1))) (va_Pc [.ref (mO M)] (MU M σ)) (Qm M (some (.int v.1)) v.2) 0 0 (mAd M) :=
  m_met [.ref (mO M)] (by decide) rfl (Nat.le_of_ble_eq_true rfl) hc (fun K hl hR hr C B hQ => w_readSaid_E _ _ (hl ▸ hrs) hbz C B hr hR hQ _ hf)
def f_readSaid (n : Nat) : Nat → MS → Option (Int32 × MS)
  | 0 => fun _ => none
  | rf + 1 => fun σ => g_readSaid (f_readSaid n rf) n σ
theorem bzf_readSaid {n : Nat} : ∀ {rf : Nat}  {σ : MS} {v : (Int32 × MS)}, f_readSaid n rf σ = some v → v.1 = 0 ∨ v.1 = 1 := by
  intro rf
  induction rf with
  | zero => intro σ v hf; cases hf
  | succ rf ih =>
    intro σ v hf
    exact bz_readSaid_E ih hf
theorem met_readSaid {M : MT} {l : Launch} {n : Nat} (hc : (mCl M)[mCi M]? = some (RX10, TX10, 61)) : ∀ (rf : Nat)  (σ : MS) (v : (Int32 × MS)), f_readSaid n rf σ = some v → Met l yX10_readSaid (ws_ yX10_readSaid cX10_readSaid 4 (some .boolean)) (rmD (6 + 5 * rf)) (va_Pc [.ref (mO M)] (MU M σ)) (Qm M (some (.int v.1)) v.2) 0 0 (mAd M) := by
  intro rf
  induction rf with
  | zero => intro  σ v hf; cases hf
  | succ rf ih =>
    intro  σ v hf
    exact metg_readSaid (rf := rf) (fun σ v h => ih σ v h) bzf_readSaid hc hf
theorem mco_readSaid {K : KT} {M : MT} {cc : ByteArray} {nL pc dk : Nat} {L : List (Nat × Value)} {rest : List Value} {σ : MS} {v : (Int32 × MS)} {n : Nat} (C : Kok K cc nL RX10) (B : MB K M) (dK : kR K = rmD dk) (hd : 326 + 1 ≤ dk) (hf : f_readSaid n 64 σ = some v) (hW : (rest.map fun v => v.category).sum ≤ 8) (dd : decode cc pc = .ok (.invokevirtual 476, 3)) (kk2 : XJ K nL (Wm K M v.2) (pc + 3) L ((.int v.1) :: rest)) : XJ K nL (Wm K M σ) pc L (.ref (mO M) :: rest) :=
  m_callV (rest := rest) (v := (some (.int v.1))) [] 0 rfl C B dK hd (Nat.le_of_ble_eq_true rfl) (lw_V q2469 q2471 qs113 q133 q2472) (by decide +kernel) (met_readSaid B.2 64 _ _ hf) rfl hW dd kk2
theorem mco_readAnd {K : KT} {M : MT} {cc : ByteArray} {nL pc dk : Nat} {L : List (Nat × Value)} {rest : List Value} {σ : MS} {v : (Int32 × MS)} {n : Nat} (C : Kok K cc nL RX10) (B : MB K M) (dK : kR K = rmD dk) (hd : 327 + 1 ≤ dk) (hf : f_readAnd (f_readSaid n 64) n σ = some v) (hW : (rest.map fun v => v.category).sum ≤ 8) (dd : decode cc pc = .ok (.invokevirtual 466, 3)) (kk2 : XJ K nL (Wm K M v.2) (pc + 3) L ((.int v.1) :: rest)) : XJ K nL (Wm K M σ) pc L (.ref (mO M) :: rest) :=
  m_callV (rest := rest) (v := (some (.int v.1))) [] 0 rfl C B dK hd (Nat.le_of_ble_eq_true rfl) (lw_V q2465 q2467 qs112 q133 q2468) (by decide +kernel) (met_readAnd (rf := 64) (l := kL K) (met_readSaid B.2 64) bzf_readSaid B.2 hf) rfl hW dd kk2
theorem bzo_readAnd {v : (Int32 × MS)} {n : Nat} {σ : MS} (hf : f_readAnd (f_readSaid n 64) n σ = some v) : v.1 = 0 ∨ v.1 = 1 := bz_readAnd_E (bzf_readSaid) hf
theorem mco_readOr {K : KT} {M : MT} {cc : ByteArray} {nL pc dk : Nat} {L : List (Nat × Value)} {rest : List Value} {σ : MS} {v : (Int32 × MS)} {n : Nat} (C : Kok K cc nL RX10) (B : MB K M) (dK : kR K = rmD dk) (hd : 328 + 1 ≤ dk) (hf : f_readOr (f_readSaid n 64) n σ = some v) (hW : (rest.map fun v => v.category).sum ≤ 8) (dd : decode cc pc = .ok (.invokevirtual 497, 3)) (kk2 : XJ K nL (Wm K M v.2) (pc + 3) L ((.int v.1) :: rest)) : XJ K nL (Wm K M σ) pc L (.ref (mO M) :: rest) :=
  m_callV (rest := rest) (v := (some (.int v.1))) [] 0 rfl C B dK hd (Nat.le_of_ble_eq_true rfl) (lw_V q2461 q2463 qs111 q133 q2464) (by decide +kernel) (met_readOr (rf := 64) (l := kL K) (met_readSaid B.2 64) bzf_readSaid B.2 hf) rfl hW dd kk2
theorem bzo_readOr {v : (Int32 × MS)} {n : Nat} {σ : MS} (hf : f_readOr (f_readSaid n 64) n σ = some v) : v.1 = 0 ∨ v.1 = 1 := bz_readOr_E (bzf_readSaid) hf
theorem mco_readBracket {K : KT} {M : MT} {cc : ByteArray} {nL pc dk : Nat} {L : List (Nat × Value)} {rest : List Value} {σ : MS} {v : (Int32 × MS)} {n : Nat} (C : Kok K cc nL RX10) (B : MB K M) (dK : kR K = rmD dk) (hd : 329 + 1 ≤ dk) (hf : f_readBracket (f_readSaid n 64) n σ = some v) (hW : (rest.map fun v => v.category).sum ≤ 8) (dd : decode cc pc = .ok (.invokevirtual 485, 3)) (kk2 : XJ K nL (Wm K M v.2) (pc + 3) L ((.int v.1) :: rest)) : XJ K nL (Wm K M σ) pc L (.ref (mO M) :: rest) :=
  m_callV (rest := rest) (v := (some (.int v.1))) [] 0 rfl C B dK hd (Nat.le_of_ble_eq_true rfl) (lw_V q2473 q2475 qs114 q133 q2476) (by decide +kernel) (met_readBracket (rf := 64) (l := kL K) (met_readSaid B.2 64) bzf_readSaid B.2 hf) rfl hW dd kk2
theorem bzo_readBracket {v : (Int32 × MS)} {n : Nat} {σ : MS} (hf : f_readBracket (f_readSaid n 64) n σ = some v) : v.1 = 0 ∨ v.1 = 1 := bz_readBracket_E (bzf_readSaid) hf
theorem mco_readNot {K : KT} {M : MT} {cc : ByteArray} {nL pc dk : Nat} {L : List (Nat × Value)} {rest : List Value} {σ : MS} {v : (Int32 × MS)} {n : Nat} (C : Kok K cc nL RX10) (B : MB K M) (dK : kR K = rmD dk) (hd : 327 + 1 ≤ dk) (hf : f_readNot (f_readSaid n 64) n σ = some v) (hW : (rest.map fun v => v.category).sum ≤ 8) (dd : decode cc pc = .ok (.invokevirtual 488, 3)) (kk2 : XJ K nL (Wm K M v.2) (pc + 3) L ((.int v.1) :: rest)) : XJ K nL (Wm K M σ) pc L (.ref (mO M) :: rest) :=
  m_callV (rest := rest) (v := (some (.int v.1))) [] 0 rfl C B dK hd (Nat.le_of_ble_eq_true rfl) (lw_V q2477 q2479 qs115 q133 q2480) (by decide +kernel) (met_readNot (rf := 64) (l := kL K) (met_readSaid B.2 64) bzf_readSaid B.2 hf) rfl hW dd kk2
theorem bzo_readNot {v : (Int32 × MS)} {n : Nat} {σ : MS} (hf : f_readNot (f_readSaid n 64) n σ = some v) : v.1 = 0 ∨ v.1 = 1 := bz_readNot_E (bzf_readSaid) hf
def f_sentence_79 (n : Nat) : Nat → Int32 → MS → Option (Int32 × MS)
  | 0, _, _ => none
  | m + 1, x1, σ => if (240 : Int32) ≤ x1 then (some (gi σ 58, σ)) else (if inb x1 240 = true then if inb ((292 : Int32) + x1) 532 = true then ev (sa σ 14 (Int32.toNatClampNeg ((292 : Int32) + x1)) (ga σ 56 (Int32.toNatClampNeg x1))) fun s4 => f_sentence_79 n m (x1 + (1 : Int32)) s4 else none else none)
set_option maxHeartbeats 4000000 in
theorem w_sentence_79 {K : KT} {M : MT} {r : Int32} {τ : MS} (n : Nat) (C : Kok K cX10_sentence 2 RX10) (B : MB K M) (hr : (kMe K).sig.returnType = some .int) (dK : kR K = rmD 329) (hQ : KQm K M (some (.int r)) τ) : ∀ (m : Nat) (x1 : Int32) (σ : MS) (hf : f_sentence_79 n m x1 σ = some (r, τ)), XJ K 2 (Wm K M σ) 79 [(0, .ref (mO M)), (1, .int x1)] [] := by
  intro m
  induction m with
  | zero => intro x1 σ hf; cases hf
  | succ m ih =>
    intro x1 σ hf
    rw [f_sentence_79] at hf
    refine x_iload_n C dX10_sentence_79 1 rfl ?_
    refine x_sipush (240 : Int32) C dX10_sentence_80 (by decide) ?_
    refine x_icmp_ge (tgt := 108) C dX10_sentence_83 (by decide) (fun c1 => ?_) (fun c1 => ?_)
    · have hf := pf_t c1 hf
      refine x_aload_n C dX10_sentence_108 0 rfl ?_
      refine mg_58 C B dX10_sentence_109 ?_
      obtain ⟨rfl, rfl⟩ := Prod.mk.inj (Option.some.inj hf)
      exact m_iret C hr hQ dX10_sentence_112
    · have hf := pf_f c1 hf
      refine x_aload_n C dX10_sentence_86 0 rfl ?_
      refine mg_14 C B dX10_sentence_87 ?_
      refine x_sipush (292 : Int32) C dX10_sentence_90 (by decide) ?_
      refine x_iload_n C dX10_sentence_93 1 rfl ?_
      refine x_iadd C dX10_sentence_94 ?_
      refine x_aload_n C dX10_sentence_95 0 rfl ?_
      refine mg_56 C B dX10_sentence_96 ?_
      refine x_iload_n C dX10_sentence_99 1 rfl ?_
      obtain ⟨h2, hf⟩ := pf_in hf
      refine ml_56 C B h2 dX10_sentence_100 ?_
      obtain ⟨h3, hf⟩ := pf_in hf
      refine ms_14 C B h3 dX10_sentence_101 ?_
      obtain ⟨s4, es4, hf⟩ := pf_e hf
      refine m_ren es4 ?_
      refine x_inc (c := (1 : Int32)) (L' := [(0, .ref (mO M)), (1, .int (x1 + (1 : Int32)))]) C dX10_sentence_102 1 rfl (by decide) (Nat.le_of_ble_eq_true rfl) [1, 0] rfl ?_
      refine x_goto (tgt := 79) C dX10_sentence_105 (by decide) ?_
      exact ih (x1 + (1 : Int32)) _ hf
def f_sentence (n : Nat) (σ : MS) : Option (Int32 × MS) := (f_begin n (200 : Int32) σ).bind fun r1 => ev (si r1 57 (0 : Int32)) fun s2 => ev (si s2 58 (0 : Int32)) fun s3 => ev (si s3 59 (0 : Int32)) fun s4 => (f_readOr (f_readSaid n 64) n s4).bind fun r5 => if r5.1 = 0 then (some ((-1 : Int32) - (gi r5.2 11), r5.2)) else (if (gi r5.2 7) = 0 then (ev (sa r5.2 14 290 (1 : Int32)) fun s8 => ev (sa s8 14 291 (gi s8 60)) fun s9 => f_sentence_79 n n (0 : Int32) s9) else (ev (f_bad (1 : Int32) r5.2) fun r10 => some ((-1 : Int32) - (gi r10.2 11), r10.2)))
set_option maxHeartbeats 4000000 in
theorem w_sentence_E {K : KT} {M : MT} {r : Int32} {τ : MS} (n : Nat) (C : Kok K cX10_sentence 2 RX10) (B : MB K M) (hr : (kMe K).sig.returnType = some .int) (dK : kR K = rmD 329) (hQ : KQm K M (some (.int r)) τ) (σ : MS) (hf : f_sentence n σ = some (r, τ)) : XJ K 2 (Wm K M σ) 0 [(0, .ref (mO M))] [] := by
  unfold f_sentence at hf
  refine x_aload_n C dX10_sentence_0 0 rfl ?_
  refine x_sipush (200 : Int32) C dX10_sentence_1 (by decide) ?_
  obtain ⟨r1, er1, hf⟩ := pf_b hf
  refine mc_begin C B dK (Nat.le_of_ble_eq_true rfl) er1 (Nat.le_of_ble_eq_true rfl) dX10_sentence_4 ?_
  refine x_aload_n C dX10_sentence_7 0 rfl ?_
  refine x_iconst (0 : Int32) C dX10_sentence_8 (by decide) ?_
  refine mp_57 C B dX10_sentence_9 ?_
  obtain ⟨s2, es2, hf⟩ := pf_e hf
  refine m_ren es2 ?_
  refine x_aload_n C dX10_sentence_12 0 rfl ?_
  refine x_iconst (0 : Int32) C dX10_sentence_13 (by decide) ?_
  refine mp_58 C B dX10_sentence_14 ?_
  obtain ⟨s3, es3, hf⟩ := pf_e hf
  refine m_ren es3 ?_
  refine x_aload_n C dX10_sentence_17 0 rfl ?_
  refine x_iconst (0 : Int32) C dX10_sentence_18 (by decide) ?_
  refine mp_59 C B dX10_sentence_19 ?_
  obtain ⟨s4, es4, hf⟩ := pf_e hf
  refine m_ren es4 ?_
  refine x_aload_n C dX10_sentence_22 0 rfl ?_
  obtain ⟨r5, er5, hf⟩ := pf_b hf
  refine mco_readOr C B dK (Nat.le_of_ble_eq_true rfl) er5 (Nat.le_of_ble_eq_true rfl) dX10_sentence_23 ?_
  refine x_if_ne (tgt := 36) C dX10_sentence_26 (by decide) (fun c6 => ?_) (fun c6 => ?_)
  · have hf := pf_f c6 hf
    refine x_aload_n C dX10_sentence_36 0 rfl ?_
    refine mg_7 C B dX10_sentence_37 ?_
    refine x_if_eq (tgt := 56) C dX10_sentence_40 (by decide) (fun c7 => ?_) (fun c7 => ?_)
    · have hf := pf_t c7 hf
      refine x_aload_n C dX10_sentence_56 0 rfl ?_
      refine mg_14 C B dX10_sentence_57 ?_
      refine x_sipush (290 : Int32) C dX10_sentence_60 (by decide) ?_
      refine x_iconst (1 : Int32) C dX10_sentence_63 (by decide) ?_
      refine msc_14 290 C B (by decide +kernel) dX10_sentence_64 ?_
      obtain ⟨s8, es8, hf⟩ := pf_e hf
      refine m_ren es8 ?_
      refine x_aload_n C dX10_sentence_65 0 rfl ?_
      refine mg_14 C B dX10_sentence_66 ?_
      refine x_sipush (291 : Int32) C dX10_sentence_69 (by decide) ?_
      refine x_aload_n C dX10_sentence_72 0 rfl ?_
      refine mg_60 C B dX10_sentence_73 ?_
      refine msc_14 291 C B (by decide +kernel) dX10_sentence_76 ?_
      obtain ⟨s9, es9, hf⟩ := pf_e hf
      refine m_ren es9 ?_
      refine x_iconst (0 : Int32) C dX10_sentence_77 (by decide) ?_
      refine x_istore_n (L' := [(0, .ref (mO M)), (1, .int (0 : Int32))]) C dX10_sentence_78 (Nat.le_of_ble_eq_true rfl) [1, 0] rfl ?_
      exact w_sentence_79 n C B hr dK hQ n (0 : Int32) _ hf
    · have hf := pf_f c7 hf
      refine x_aload_n C dX10_sentence_43 0 rfl ?_
      refine x_iconst (1 : Int32) C dX10_sentence_44 (by decide) ?_
      obtain ⟨r10, er10, hf⟩ := pf_e hf
      refine mc_bad C B dK (Nat.le_of_ble_eq_true rfl) er10.symm (Nat.le_of_ble_eq_true rfl) dX10_sentence_45 ?_
      refine x_pop C dX10_sentence_48 rfl ?_
      refine x_iconst (-1 : Int32) C dX10_sentence_49 (by decide) ?_
      refine x_aload_n C dX10_sentence_50 0 rfl ?_
      refine mg_11 C B dX10_sentence_51 ?_
      refine x_isub C dX10_sentence_54 ?_
      obtain ⟨rfl, rfl⟩ := Prod.mk.inj (Option.some.inj hf)
      exact m_iret C hr hQ dX10_sentence_55
  · have hf := pf_t c6 hf
    refine x_iconst (-1 : Int32) C dX10_sentence_29 (by decide) ?_
    refine x_aload_n C dX10_sentence_30 0 rfl ?_
    refine mg_11 C B dX10_sentence_31 ?_
    refine x_isub C dX10_sentence_34 ?_
    obtain ⟨rfl, rfl⟩ := Prod.mk.inj (Option.some.inj hf)
    exact m_iret C hr hQ dX10_sentence_35
theorem met_sentence {M : MT} {v : (Int32 × MS)} {n : Nat} {σ : MS} {l : Launch} (hc : (mCl M)[mCi M]? = some (RX10, TX10, 61)) (hf : f_sentence n σ = some v) : Met l yX10_sentence (ws_ yX10_sentence cX10_sentence 2 (some .int)) (rmD 329) (va_Pc [.ref (mO M)] (MU M σ)) (Qm M (some (.int v.1)) v.2) 0 0 (mAd M) :=
  m_met [.ref (mO M)] (by decide) rfl (Nat.le_of_ble_eq_true rfl) hc (fun K hl hR hr C B hQ => w_sentence_E _ C B hr hR hQ _ hf)
