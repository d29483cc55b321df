set_option maxRecDepth 100000
def f_readLine (n : Nat) (σ : MS) : Option (Int32 × MS) := if (f_isWord σ (0 : Int32)) = 0 then (if (f_isWord σ (1 : Int32)) = 0 then (if (f_isWord σ (2 : Int32)) = 0 then (if (f_isWord σ (3 : Int32)) = 0 then (if (f_isWord σ (4 : Int32)) = 0 then (if (f_isWord σ (5 : Int32)) = 0 then (if (f_isWord σ (6 : Int32)) = 0 then (ev (f_bad (1 : Int32) σ) fun r14 => some (r14.1, r14.2)) else (if (gi σ 25) = 0 then (ev (si σ 25 (1 : Int32)) fun s9 => (f_go n s9).bind fun r10 => (f_readNumber n (1 : Int32) (9 : Int32) r10).bind fun r11 => (f_put (5 : Int32) r11.1 r11.2).bind fun r12 => some (r12.1, r12.2)) else (ev (f_bad (3 : Int32) σ) fun r13 => some (r13.1, r13.2)))) else ((f_readLikes n σ).bind fun r15 => some (r15.1, r15.2))) else ((f_readWalker n σ).bind fun r16 => some (r16.1, r16.2))) else ((f_readStatue n σ).bind fun r17 => some (r17.1, r17.2))) else ((f_readKind n σ).bind fun r18 => some (r18.1, r18.2))) else ((f_readPath n σ).bind fun r19 => some (r19.1, r19.2))) else ((f_readSquare n σ).bind fun r20 => some (r20.1, r20.2))
set_option maxHeartbeats 4000000 in
theorem w_readLine_E {K : KT} {M : MT} {r : Int32} {τ : MS} (n : Nat) (C : Kok K cX10_readLine 1 RX10) (B : MB K M) (hr : (kMe K).sig.returnType = some .boolean) (dK : kR K = rmD 7) (hQ : KQm K M (some (.int r)) τ) (σ : MS) (hf : f_readLine n σ = some (r, τ)) : XJ K 1 (Wm K M σ) 0 [(0, .ref (mO M))] [] := by
  unfold f_readLine at hf
  refine x_aload_n C dX10_readLine_0 0 rfl ?_
  refine x_iconst (0 : Int32) C dX10_readLine_1 (by decide) ?_
  refine mc_isWord C B dK (Nat.le_of_ble_eq_true rfl) rfl (Nat.le_of_ble_eq_true rfl) dX10_readLine_2 ?_
  refine x_if_eq (tgt := 13) C dX10_readLine_5 (by decide) (fun c1 => ?_) (fun c1 => ?_)
  · have hf := pf_t c1 hf
    refine x_aload_n C dX10_readLine_13 0 rfl ?_
    refine x_iconst (1 : Int32) C dX10_readLine_14 (by decide) ?_
    refine mc_isWord C B dK (Nat.le_of_ble_eq_true rfl) rfl (Nat.le_of_ble_eq_true rfl) dX10_readLine_15 ?_
    refine x_if_eq (tgt := 26) C dX10_readLine_18 (by decide) (fun c2 => ?_) (fun c2 => ?_)
    · have hf := pf_t c2 hf
      refine x_aload_n C dX10_readLine_26 0 rfl ?_
      refine x_iconst (2 : Int32) C dX10_readLine_27 (by decide) ?_
      refine mc_isWord C B dK (Nat.le_of_ble_eq_true rfl) rfl (Nat.le_of_ble_eq_true rfl) dX10_readLine_28 ?_
      refine x_if_eq (tgt := 39) C dX10_readLine_31 (by decide) (fun c3 => ?_) (fun c3 => ?_)
      · have hf := pf_t c3 hf
        refine x_aload_n C dX10_readLine_39 0 rfl ?_
        refine x_iconst (3 : Int32) C dX10_readLine_40 (by decide) ?_
        refine mc_isWord C B dK (Nat.le_of_ble_eq_true rfl) rfl (Nat.le_of_ble_eq_true rfl) dX10_readLine_41 ?_
        refine x_if_eq (tgt := 52) C dX10_readLine_44 (by decide) (fun c4 => ?_) (fun c4 => ?_)
        · have hf := pf_t c4 hf
          refine x_aload_n C dX10_readLine_52 0 rfl ?_
          refine x_iconst (4 : Int32) C dX10_readLine_53 (by decide) ?_
          refine mc_isWord C B dK (Nat.le_of_ble_eq_true rfl) rfl (Nat.le_of_ble_eq_true rfl) dX10_readLine_54 ?_
          refine x_if_eq (tgt := 65) C dX10_readLine_57 (by decide) (fun c5 => ?_) (fun c5 => ?_)
          · have hf := pf_t c5 hf
            refine x_aload_n C dX10_readLine_65 0 rfl ?_
            refine x_iconst (5 : Int32) C dX10_readLine_66 (by decide) ?_
            refine mc_isWord C B dK (Nat.le_of_ble_eq_true rfl) rfl (Nat.le_of_ble_eq_true rfl) dX10_readLine_67 ?_
            refine x_if_eq (tgt := 78) C dX10_readLine_70 (by decide) (fun c6 => ?_) (fun c6 => ?_)
            · have hf := pf_t c6 hf
              refine x_aload_n C dX10_readLine_78 0 rfl ?_
              refine x_bipush (6 : Int32) C dX10_readLine_79 (by decide) ?_
              refine mc_isWord C B dK (Nat.le_of_ble_eq_true rfl) rfl (Nat.le_of_ble_eq_true rfl) dX10_readLine_81 ?_
              refine x_if_ne (tgt := 93) C dX10_readLine_84 (by decide) (fun c7 => ?_) (fun c7 => ?_)
              · have hf := pf_f c7 hf
                refine x_aload_n C dX10_readLine_93 0 rfl ?_
                refine mg_25 C B dX10_readLine_94 ?_
                refine x_if_eq (tgt := 106) C dX10_readLine_97 (by decide) (fun c8 => ?_) (fun c8 => ?_)
                · have hf := pf_t c8 hf
                  refine x_aload_n C dX10_readLine_106 0 rfl ?_
                  refine x_iconst (1 : Int32) C dX10_readLine_107 (by decide) ?_
                  refine mp_25 C B (Or.inr rfl) dX10_readLine_108 ?_
                  obtain ⟨s9, es9, hf⟩ := pf_e hf
                  refine m_ren es9 ?_
                  refine x_aload_n C dX10_readLine_111 0 rfl ?_
                  obtain ⟨r10, er10, hf⟩ := pf_b hf
                  refine mc_go C B dK (Nat.le_of_ble_eq_true rfl) er10 (Nat.le_of_ble_eq_true rfl) dX10_readLine_112 ?_
                  refine x_aload_n C dX10_readLine_115 0 rfl ?_
                  refine x_iconst (5 : Int32) C dX10_readLine_116 (by decide) ?_
                  refine x_aload_n C dX10_readLine_117 0 rfl ?_
                  refine x_iconst (1 : Int32) C dX10_readLine_118 (by decide) ?_
                  refine x_bipush (9 : Int32) C dX10_readLine_119 (by decide) ?_
                  obtain ⟨r11, er11, hf⟩ := pf_b hf
                  refine mc_readNumber C B dK (Nat.le_of_ble_eq_true rfl) er11 (Nat.le_of_ble_eq_true rfl) dX10_readLine_121 ?_
                  obtain ⟨r12, er12, hf⟩ := pf_b hf
                  refine mc_put C B dK (Nat.le_of_ble_eq_true rfl) (bz_readNumber_E er11) er12 (Nat.le_of_ble_eq_true rfl) dX10_readLine_124 ?_
                  obtain ⟨rfl, rfl⟩ := Prod.mk.inj (Option.some.inj hf)
                  exact m_zret C hr (bz_put_E (bz_readNumber_E er11) er12) hQ dX10_readLine_127
                · have hf := pf_f c8 hf
                  refine x_aload_n C dX10_readLine_100 0 rfl ?_
                  refine x_iconst (3 : Int32) C dX10_readLine_101 (by decide) ?_
                  obtain ⟨r13, er13, hf⟩ := pf_e hf
                  refine mc_bad C B dK (Nat.le_of_ble_eq_true rfl) er13.symm (Nat.le_of_ble_eq_true rfl) dX10_readLine_102 ?_
                  obtain ⟨rfl, rfl⟩ := Prod.mk.inj (Option.some.inj hf)
                  exact m_zret C hr (bz_bad_E er13.symm) hQ dX10_readLine_105
              · have hf := pf_t c7 hf
                refine x_aload_n C dX10_readLine_87 0 rfl ?_
                refine x_iconst (1 : Int32) C dX10_readLine_88 (by decide) ?_
                obtain ⟨r14, er14, hf⟩ := pf_e hf
                refine mc_bad C B dK (Nat.le_of_ble_eq_true rfl) er14.symm (Nat.le_of_ble_eq_true rfl) dX10_readLine_89 ?_
                obtain ⟨rfl, rfl⟩ := Prod.mk.inj (Option.some.inj hf)
                exact m_zret C hr (bz_bad_E er14.symm) hQ dX10_readLine_92
            · have hf := pf_f c6 hf
              refine x_aload_n C dX10_readLine_73 0 rfl ?_
              obtain ⟨r15, er15, hf⟩ := pf_b hf
              refine mc_readLikes C B dK (Nat.le_of_ble_eq_true rfl) er15 (Nat.le_of_ble_eq_true rfl) dX10_readLine_74 ?_
              obtain ⟨rfl, rfl⟩ := Prod.mk.inj (Option.some.inj hf)
              exact m_zret C hr (bz_readLikes_E er15) hQ dX10_readLine_77
          · have hf := pf_f c5 hf
            refine x_aload_n C dX10_readLine_60 0 rfl ?_
            obtain ⟨r16, er16, hf⟩ := pf_b hf
            refine mc_readWalker C B dK (Nat.le_of_ble_eq_true rfl) er16 (Nat.le_of_ble_eq_true rfl) dX10_readLine_61 ?_
            obtain ⟨rfl, rfl⟩ := Prod.mk.inj (Option.some.inj hf)
            exact m_zret C hr (bz_readWalker_E er16) hQ dX10_readLine_64
        · have hf := pf_f c4 hf
          refine x_aload_n C dX10_readLine_47 0 rfl ?_
          obtain ⟨r17, er17, hf⟩ := pf_b hf
          refine mc_readStatue C B dK (Nat.le_of_ble_eq_true rfl) er17 (Nat.le_of_ble_eq_true rfl) dX10_readLine_48 ?_
          obtain ⟨rfl, rfl⟩ := Prod.mk.inj (Option.some.inj hf)
          exact m_zret C hr (bz_readStatue_E er17) hQ dX10_readLine_51
      · have hf := pf_f c3 hf
        refine x_aload_n C dX10_readLine_34 0 rfl ?_
        obtain ⟨r18, er18, hf⟩ := pf_b hf
        refine mc_readKind C B dK (Nat.le_of_ble_eq_true rfl) er18 (Nat.le_of_ble_eq_true rfl) dX10_readLine_35 ?_
        obtain ⟨rfl, rfl⟩ := Prod.mk.inj (Option.some.inj hf)
        exact m_zret C hr (bz_readKind_E er18) hQ dX10_readLine_38
    · have hf := pf_f c2 hf
      refine x_aload_n C dX10_readLine_21 0 rfl ?_
      obtain ⟨r19, er19, hf⟩ := pf_b hf
      refine mc_readPath C B dK (Nat.le_of_ble_eq_true rfl) er19 (Nat.le_of_ble_eq_true rfl) dX10_readLine_22 ?_
      obtain ⟨rfl, rfl⟩ := Prod.mk.inj (Option.some.inj hf)
      exact m_zret C hr (bz_readPath_E er19) hQ dX10_readLine_25
  · have hf := pf_f c1 hf
    refine x_aload_n C dX10_readLine_8 0 rfl ?_
    obtain ⟨r20, er20, hf⟩ := pf_b hf
    refine mc_readSquare C B dK (Nat.le_of_ble_eq_true rfl) er20 (Nat.le_of_ble_eq_true rfl) dX10_readLine_9 ?_
    obtain ⟨rfl, rfl⟩ := Prod.mk.inj (Option.some.inj hf)
    exact m_zret C hr (bz_readSquare_E er20) hQ dX10_readLine_12
theorem bz_readLine_E {r : Int32} {τ : MS} {n : Nat} {σ : MS} (hf : f_readLine n σ = some (r, τ)) : r = 0 ∨ r = 1 := by
  unfold f_readLine at hf
  by_cases c1 : (f_isWord σ (0 : Int32)) = 0
  · have hf := pf_t c1 hf
    by_cases c2 : (f_isWord σ (1 : Int32)) = 0
    · have hf := pf_t c2 hf
      by_cases c3 : (f_isWord σ (2 : Int32)) = 0
      · have hf := pf_t c3 hf
        by_cases c4 : (f_isWord σ (3 : Int32)) = 0
        · have hf := pf_t c4 hf
          by_cases c5 : (f_isWord σ (4 : Int32)) = 0
          · have hf := pf_t c5 hf
            by_cases c6 : (f_isWord σ (5 : Int32)) = 0
            · have hf := pf_t c6 hf
              by_cases c7 : (f_isWord σ (6 : Int32)) = 0
              · have hf := pf_t c7 hf
                obtain ⟨r14, er14, hf⟩ := pf_e hf
                obtain ⟨rfl, rfl⟩ := Prod.mk.inj (Option.some.inj hf)
                exact (bz_bad_E er14.symm)
              · have hf := pf_f c7 hf
                by_cases c8 : (gi σ 25) = 0
                · have hf := pf_t c8 hf
                  obtain ⟨s9, es9, hf⟩ := pf_e hf
                  obtain ⟨r10, er10, hf⟩ := pf_b hf
                  obtain ⟨r11, er11, hf⟩ := pf_b hf
                  obtain ⟨r12, er12, hf⟩ := pf_b hf
                  obtain ⟨rfl, rfl⟩ := Prod.mk.inj (Option.some.inj hf)
                  exact (bz_put_E (bz_readNumber_E er11) er12)
                · have hf := pf_f c8 hf
                  obtain ⟨r13, er13, hf⟩ := pf_e hf
                  obtain ⟨rfl, rfl⟩ := Prod.mk.inj (Option.some.inj hf)
                  exact (bz_bad_E er13.symm)
            · have hf := pf_f c6 hf
              obtain ⟨r15, er15, hf⟩ := pf_b hf
              obtain ⟨rfl, rfl⟩ := Prod.mk.inj (Option.some.inj hf)
              exact (bz_readLikes_E er15)
          · have hf := pf_f c5 hf
            obtain ⟨r16, er16, hf⟩ := pf_b hf
            obtain ⟨rfl, rfl⟩ := Prod.mk.inj (Option.some.inj hf)
            exact (bz_readWalker_E er16)
        · have hf := pf_f c4 hf
          obtain ⟨r17, er17, hf⟩ := pf_b hf
          obtain ⟨rfl, rfl⟩ := Prod.mk.inj (Option.some.inj hf)
          exact (bz_readStatue_E er17)
      · have hf := pf_f c3 hf
        obtain ⟨r18, er18, hf⟩ := pf_b hf
        obtain ⟨rfl, rfl⟩ := Prod.mk.inj (Option.some.inj hf)
        exact (bz_readKind_E er18)
    · have hf := pf_f c2 hf
      obtain ⟨r19, er19, hf⟩ := pf_b hf
      obtain ⟨rfl, rfl⟩ := Prod.mk.inj (Option.some.inj hf)
      exact (bz_readPath_E er19)
  · have hf := pf_f c1 hf
    obtain ⟨r20, er20, hf⟩ := pf_b hf
    obtain ⟨rfl, rfl⟩ := Prod.mk.inj (Option.some.inj hf)
    exact (bz_readSquare_E er20)
theorem met_readLine {M : MT} {v : (Int32 × MS)} {n : Nat} {σ : MS} {l : Launch} (hc : (mCl M)[mCi M]? = some (RX10, TX10, 61)) (hf : f_readLine n σ = some v) : Met l yX10_readLine (ws_ yX10_readLine cX10_readLine 1 (some .boolean)) (rmD 7) (va_Pc [.ref (mO M)] (MU M σ)) (Qm M (some (.int v.1)) v.2) 0 0 (mAd M) :=
  m_met [.ref (mO M)] (by decide) rfl (Nat.le_of_ble_eq_true rfl) hc (fun K hl hR hr C B hQ => w_readLine_E _ C B hr hR hQ _ hf)
theorem mc_readLine {K : KT} {M : MT} {cc : ByteArray} {nL pc dk : Nat} {L : List (Nat × Value)} {rest : List Value} {σ : MS} {v : (Int32 × MS)} {n : Nat} (C : Kok K cc nL RX10) (B : MB K M) (dK : kR K = rmD dk) (hd : 7 + 1 ≤ dk) (hf : f_readLine n σ = some v) (hW : (rest.map fun v => v.category).sum ≤ 8) (dd : decode cc pc = .ok (.invokevirtual 255, 3)) (kk2 : XJ K nL (Wm K M v.2) (pc + 3) L ((.int v.1) :: rest)) : XJ K nL (Wm K M σ) pc L (.ref (mO M) :: rest) :=
  m_callV (rest := rest) (v := (some (.int v.1))) [] 0 rfl C B dK hd (Nat.le_of_ble_eq_true rfl) (lw_V q2009 q2011 qs45 q133 q2012) (by decide +kernel) (met_readLine B.2 hf) rfl hW dd kk2
def f_city_150 (n : Nat) : Nat → Int32 → Int32 → MS → Option (Int32 × MS)
  | 0, _, _, _ => none
  | m + 1, x1, x2, σ => if (29 : Int32) ≤ x2 then ((f_startSo n σ).bind fun r2 => ev (si r2 24 (0 : Int32)) fun s3 => some (x1, s3)) else (if inb x2 29 = true then if inb x2 29 = true then ev (sb σ 19 (Int32.toNatClampNeg x2) (gb σ 20 (Int32.toNatClampNeg x2))) fun s6 => f_city_150 n m x1 (x2 + (1 : Int32)) s6 else none else none)
set_option maxHeartbeats 4000000 in
theorem w_city_150 {K : KT} {M : MT} {r : Int32} {τ : MS} (n : Nat) (C : Kok K cX10_city 3 RX10) (B : MB K M) (hr : (kMe K).sig.returnType = some .int) (dK : kR K = rmD 8) (hQ : KQm K M (some (.int r)) τ) : ∀ (m : Nat) (x1 : Int32) (x2 : Int32) (σ : MS) (hf : f_city_150 n m x1 x2 σ = some (r, τ)), XJ K 3 (Wm K M σ) 150 [(0, .ref (mO M)), (1, .int x1), (2, .int x2)] [] := by
  intro m
  induction m with
  | zero => intro x1 x2 σ hf; cases hf
  | succ m ih =>
    intro x1 x2 σ hf
    rw [f_city_150] at hf
    refine x_iload_n C dX10_city_150 2 rfl ?_
    refine x_bipush (29 : Int32) C dX10_city_151 (by decide) ?_
    refine x_icmp_ge (tgt := 174) C dX10_city_153 (by decide) (fun c1 => ?_) (fun c1 => ?_)
    · have hf := pf_t c1 hf
      refine x_aload_n C dX10_city_174 0 rfl ?_
      obtain ⟨r2, er2, hf⟩ := pf_b hf
      refine mc_startSo C B dK (Nat.le_of_ble_eq_true rfl) er2 (Nat.le_of_ble_eq_true rfl) dX10_city_175 ?_
      refine x_aload_n C dX10_city_178 0 rfl ?_
      refine x_iconst (0 : Int32) C dX10_city_179 (by decide) ?_
      refine mp_24 C B dX10_city_180 ?_
      obtain ⟨s3, es3, hf⟩ := pf_e hf
      refine m_ren es3 ?_
      refine x_iload_n C dX10_city_183 1 rfl ?_
      obtain ⟨rfl, rfl⟩ := Prod.mk.inj (Option.some.inj hf)
      exact m_iret C hr hQ dX10_city_184
    · have hf := pf_f c1 hf
      refine x_aload_n C dX10_city_156 0 rfl ?_
      refine mg_19 C B dX10_city_157 ?_
      refine x_iload_n C dX10_city_160 2 rfl ?_
      refine x_aload_n C dX10_city_161 0 rfl ?_
      refine mg_20 C B dX10_city_162 ?_
      refine x_iload_n C dX10_city_165 2 rfl ?_
      obtain ⟨h4, hf⟩ := pf_in hf
      refine ml_20 C B h4 dX10_city_166 ?_
      obtain ⟨h5, hf⟩ := pf_in hf
      refine ms_19 C B h5 dX10_city_167 ?_
      obtain ⟨s6, es6, hf⟩ := pf_e hf
      refine m_ren es6 ?_
      refine x_inc (c := (1 : Int32)) (L' := [(0, .ref (mO M)), (1, .int x1), (2, .int (x2 + (1 : Int32)))]) C dX10_city_168 2 rfl (by decide) (Nat.le_of_ble_eq_true rfl) [1, 2, 0] rfl ?_
      refine x_goto (tgt := 150) C dX10_city_171 (by decide) ?_
      exact ih x1 (x2 + (1 : Int32)) _ hf
def f_city_123 (n : Nat) : Nat → Int32 → Int32 → MS → Option (Int32 × MS)
  | 0, _, _, _ => none
  | m + 1, x1, x2, σ => if (198 : Int32) ≤ x2 then (f_city_150 n n x1 (0 : Int32) σ) else (if inb x2 198 = true then if inb x2 532 = true then ev (sa σ 14 (Int32.toNatClampNeg x2) (ga σ 15 (Int32.toNatClampNeg x2))) fun s4 => f_city_123 n m x1 (x2 + (1 : Int32)) s4 else none else none)
set_option maxHeartbeats 4000000 in
theorem w_city_123 {K : KT} {M : MT} {r : Int32} {τ : MS} (n : Nat) (C : Kok K cX10_city 3 RX10) (B : MB K M) (hr : (kMe K).sig.returnType = some .int) (dK : kR K = rmD 8) (hQ : KQm K M (some (.int r)) τ) : ∀ (m : Nat) (x1 : Int32) (x2 : Int32) (σ : MS) (hf : f_city_123 n m x1 x2 σ = some (r, τ)), XJ K 3 (Wm K M σ) 123 [(0, .ref (mO M)), (1, .int x1), (2, .int x2)] [] := by
  intro m
  induction m with
  | zero => intro x1 x2 σ hf; cases hf
  | succ m ih =>
    intro x1 x2 σ hf
    rw [f_city_123] at hf
    refine x_iload_n C dX10_city_123 2 rfl ?_
    refine x_sipush (198 : Int32) C dX10_city_124 (by decide) ?_
    refine x_icmp_ge (tgt := 148) C dX10_city_127 (by decide) (fun c1 => ?_) (fun c1 => ?_)
    · have hf := pf_t c1 hf
      refine x_iconst (0 : Int32) C dX10_city_148 (by decide) ?_
      refine x_istore_n (L' := [(0, .ref (mO M)), (1, .int x1), (2, .int (0 : Int32))]) C dX10_city_149 (Nat.le_of_ble_eq_true rfl) [1, 2, 0] rfl ?_
      exact w_city_150 n C B hr dK hQ n x1 (0 : Int32) _ hf
    · have hf := pf_f c1 hf
      refine x_aload_n C dX10_city_130 0 rfl ?_
      refine mg_14 C B dX10_city_131 ?_
      refine x_iload_n C dX10_city_134 2 rfl ?_
      refine x_aload_n C dX10_city_135 0 rfl ?_
      refine mg_15 C B dX10_city_136 ?_
      refine x_iload_n C dX10_city_139 2 rfl ?_
      obtain ⟨h2, hf⟩ := pf_in hf
      refine ml_15 C B h2 dX10_city_140 ?_
      obtain ⟨h3, hf⟩ := pf_in hf
      refine ms_14 C B h3 dX10_city_141 ?_
      obtain ⟨s4, es4, hf⟩ := pf_e hf
      refine m_ren es4 ?_
      refine x_inc (c := (1 : Int32)) (L' := [(0, .ref (mO M)), (1, .int x1), (2, .int (x2 + (1 : Int32)))]) C dX10_city_142 2 rfl (by decide) (Nat.le_of_ble_eq_true rfl) [1, 2, 0] rfl ?_
      refine x_goto (tgt := 123) C dX10_city_145 (by decide) ?_
      exact ih x1 (x2 + (1 : Int32)) _ hf
def f_city_100 (n : Nat) : Nat → Int32 → Int32 → MS → Option (Int32 × MS)
  | 0, _, _, _ => none
  | m + 1, x1, x2, σ => if (ga σ 15 4) ≤ x2 then (f_city_123 n n x1 (0 : Int32) σ) else ((f_layWay n x2 σ).bind fun r2 => f_city_100 n m x1 (x2 + (1 : Int32)) r2)
set_option maxHeartbeats 4000000 in
theorem w_city_100 {K : KT} {M : MT} {r : Int32} {τ : MS} (n : Nat) (C : Kok K cX10_city 3 RX10) (B : MB K M) (hr : (kMe K).sig.returnType = some .int) (dK : kR K = rmD 8) (hQ : KQm K M (some (.int r)) τ) : ∀ (m : Nat) (x1 : Int32) (x2 : Int32) (σ : MS) (hf : f_city_100 n m x1 x2 σ = some (r, τ)), XJ K 3 (Wm K M σ) 100 [(0, .ref (mO M)), (1, .int x1), (2, .int x2)] [] := by
  intro m
  induction m with
  | zero => intro x1 x2 σ hf; cases hf
  | succ m ih =>
    intro x1 x2 σ hf
    rw [f_city_100] at hf
    refine x_iload_n C dX10_city_100 2 rfl ?_
    refine x_aload_n C dX10_city_101 0 rfl ?_
    refine mg_15 C B dX10_city_102 ?_
    refine x_iconst (4 : Int32) C dX10_city_105 (by decide) ?_
    refine mlc_15 4 C B (by decide +kernel) dX10_city_106 ?_
    refine x_icmp_ge (tgt := 121) C dX10_city_107 (by decide) (fun c1 => ?_) (fun c1 => ?_)
    · have hf := pf_t c1 hf
      refine x_iconst (0 : Int32) C dX10_city_121 (by decide) ?_
      refine x_istore_n (L' := [(0, .ref (mO M)), (1, .int x1), (2, .int (0 : Int32))]) C dX10_city_122 (Nat.le_of_ble_eq_true rfl) [1, 2, 0] rfl ?_
      exact w_city_123 n C B hr dK hQ n x1 (0 : Int32) _ hf
    · have hf := pf_f c1 hf
      refine x_aload_n C dX10_city_110 0 rfl ?_
      refine x_iload_n C dX10_city_111 2 rfl ?_
      obtain ⟨r2, er2, hf⟩ := pf_b hf
      refine mc_layWay C B dK (Nat.le_of_ble_eq_true rfl) er2 (Nat.le_of_ble_eq_true rfl) dX10_city_112 ?_
      refine x_inc (c := (1 : Int32)) (L' := [(0, .ref (mO M)), (1, .int x1), (2, .int (x2 + (1 : Int32)))]) C dX10_city_115 2 rfl (by decide) (Nat.le_of_ble_eq_true rfl) [1, 2, 0] rfl ?_
      refine x_goto (tgt := 100) C dX10_city_118 (by decide) ?_
      exact ih x1 (x2 + (1 : Int32)) _ hf
def f_city_64 (n : Nat) : Nat → Int32 → MS → Option (Int32 × MS)
  | 0, _, _ => none
  | m + 1, x1, σ => if (gi σ 7) = 0 then (f_city_100 n n x1 (0 : Int32) σ) else ((f_readLine n σ).bind fun r2 => if r2.1 = 0 then (some ((-1 : Int32) - (gi r2.2 11), r2.2)) else ((f_readEnd n r2.2).bind fun r4 => if r4.1 = 0 then (some ((-1 : Int32) - (gi r4.2 11), r4.2)) else (f_city_64 n m (x1 + (1 : Int32)) r4.2)))
set_option maxHeartbeats 4000000 in
theorem w_city_64 {K : KT} {M : MT} {r : Int32} {τ : MS} (n : Nat) (C : Kok K cX10_city 3 RX10) (B : MB K M) (hr : (kMe K).sig.returnType = some .int) (dK : kR K = rmD 8) (hQ : KQm K M (some (.int r)) τ) : ∀ (m : Nat) (x1 : Int32) (σ : MS) (hf : f_city_64 n m x1 σ = some (r, τ)), XJ K 3 (Wm K M σ) 64 [(0, .ref (mO M)), (1, .int x1)] [] := by
  intro m
  induction m with
  | zero => intro x1 σ hf; cases hf
  | succ m ih =>
    intro x1 σ hf
    rw [f_city_64] at hf
    refine x_aload_n C dX10_city_64 0 rfl ?_
    refine mg_7 C B dX10_city_65 ?_
    refine x_if_eq (tgt := 98) C dX10_city_68 (by decide) (fun c1 => ?_) (fun c1 => ?_)
    · have hf := pf_t c1 hf
      refine x_iconst (0 : Int32) C dX10_city_98 (by decide) ?_
      refine x_istore_n (L' := [(0, .ref (mO M)), (1, .int x1), (2, .int (0 : Int32))]) C dX10_city_99 (Nat.le_of_ble_eq_true rfl) [1, 2, 0] rfl ?_
      exact w_city_100 n C B hr dK hQ n x1 (0 : Int32) _ hf
    · have hf := pf_f c1 hf
      refine x_aload_n C dX10_city_71 0 rfl ?_
      obtain ⟨r2, er2, hf⟩ := pf_b hf
      refine mc_readLine C B dK (Nat.le_of_ble_eq_true rfl) er2 (Nat.le_of_ble_eq_true rfl) dX10_city_72 ?_
      refine x_if_eq (tgt := 85) C dX10_city_75 (by decide) (fun c3 => ?_) (fun c3 => ?_)
      · have hf := pf_t c3 hf
        refine x_iconst (-1 : Int32) C dX10_city_85 (by decide) ?_
        refine x_aload_n C dX10_city_86 0 rfl ?_
        refine mg_11 C B dX10_city_87 ?_
        refine x_isub C dX10_city_90 ?_
        obtain ⟨rfl, rfl⟩ := Prod.mk.inj (Option.some.inj hf)
        exact m_iret C hr hQ dX10_city_91
      · have hf := pf_f c3 hf
        refine x_aload_n C dX10_city_78 0 rfl ?_
        obtain ⟨r4, er4, hf⟩ := pf_b hf
        refine mc_readEnd C B dK (Nat.le_of_ble_eq_true rfl) er4 (Nat.le_of_ble_eq_true rfl) dX10_city_79 ?_
        refine x_if_ne (tgt := 92) C dX10_city_82 (by decide) (fun c5 => ?_) (fun c5 => ?_)
        · have hf := pf_f c5 hf
          refine x_inc (c := (1 : Int32)) (L' := [(0, .ref (mO M)), (1, .int (x1 + (1 : Int32)))]) C dX10_city_92 1 rfl (by decide) (Nat.le_of_ble_eq_true rfl) [1, 0] rfl ?_
          refine x_goto (tgt := 64) C dX10_city_95 (by decide) ?_
          exact ih (x1 + (1 : Int32)) _ hf
        · have hf := pf_t c5 hf
          refine x_iconst (-1 : Int32) C dX10_city_85 (by decide) ?_
          refine x_aload_n C dX10_city_86 0 rfl ?_
          refine mg_11 C B dX10_city_87 ?_
          refine x_isub C dX10_city_90 ?_
          obtain ⟨rfl, rfl⟩ := Prod.mk.inj (Option.some.inj hf)
          exact m_iret C hr hQ dX10_city_91
def f_city_31 (n : Nat) : Nat → Int32 → MS → Option (Int32 × MS)
  | 0, _, _ => none
  | m + 1, x1, σ => if (40 : Int32) ≤ x1 then (ev (sa σ 15 5 (3 : Int32)) fun s2 => ev (si s2 25 (0 : Int32)) fun s3 => f_city_64 n n (0 : Int32) s3) else (if inb x1 40 = true then ev (sa σ 23 (Int32.toNatClampNeg x1) (vp_nar .boolean (0 : Int32))) fun s5 => f_city_31 n m (x1 + (1 : Int32)) s5 else none)
set_option maxHeartbeats 4000000 in
theorem w_city_31 {K : KT} {M : MT} {r : Int32} {τ : MS} (n : Nat) (C : Kok K cX10_city 3 RX10) (B : MB K M) (hr : (kMe K).sig.returnType = some .int) (dK : kR K = rmD 8) (hQ : KQm K M (some (.int r)) τ) : ∀ (m : Nat) (x1 : Int32) (σ : MS) (hf : f_city_31 n m x1 σ = some (r, τ)), XJ K 3 (Wm K M σ) 31 [(0, .ref (mO M)), (1, .int x1)] [] := by
  intro m
  induction m with
  | zero => intro x1 σ hf; cases hf
  | succ m ih =>
    intro x1 σ hf
    rw [f_city_31] at hf
    refine x_iload_n C dX10_city_31 1 rfl ?_
    refine x_bipush (40 : Int32) C dX10_city_32 (by decide) ?_
    refine x_icmp_ge (tgt := 50) C dX10_city_34 (by decide) (fun c1 => ?_) (fun c1 => ?_)
    · have hf := pf_t c1 hf
      refine x_aload_n C dX10_city_50 0 rfl ?_
      refine mg_15 C B dX10_city_51 ?_
      refine x_iconst (5 : Int32) C dX10_city_54 (by decide) ?_
      refine x_iconst (3 : Int32) C dX10_city_55 (by decide) ?_
      refine msc_15 5 C B (by decide +kernel) dX10_city_56 ?_
      obtain ⟨s2, es2, hf⟩ := pf_e hf
      refine m_ren es2 ?_
      refine x_aload_n C dX10_city_57 0 rfl ?_
      refine x_iconst (0 : Int32) C dX10_city_58 (by decide) ?_
      refine mp_25 C B (Or.inl rfl) dX10_city_59 ?_
      obtain ⟨s3, es3, hf⟩ := pf_e hf
      refine m_ren es3 ?_
      refine x_iconst (0 : Int32) C dX10_city_62 (by decide) ?_
      refine x_istore_n (L' := [(0, .ref (mO M)), (1, .int (0 : Int32))]) C dX10_city_63 (Nat.le_of_ble_eq_true rfl) [1, 0] rfl ?_
      exact w_city_64 n C B hr dK hQ n (0 : Int32) _ hf
    · have hf := pf_f c1 hf
      refine x_aload_n C dX10_city_37 0 rfl ?_
      refine mg_23 C B dX10_city_38 ?_
      refine x_iload_n C dX10_city_41 1 rfl ?_
      refine x_iconst (0 : Int32) C dX10_city_42 (by decide) ?_
      obtain ⟨h4, hf⟩ := pf_in hf
      refine ms_23 C B h4 dX10_city_43 ?_
      obtain ⟨s5, es5, hf⟩ := pf_e hf
      refine m_ren es5 ?_
      refine x_inc (c := (1 : Int32)) (L' := [(0, .ref (mO M)), (1, .int (x1 + (1 : Int32)))]) C dX10_city_44 1 rfl (by decide) (Nat.le_of_ble_eq_true rfl) [1, 0] rfl ?_
      refine x_goto (tgt := 31) C dX10_city_47 (by decide) ?_
      exact ih (x1 + (1 : Int32)) _ hf
def f_city_9 (n : Nat) : Nat → Int32 → MS → Option (Int32 × MS)
  | 0, _, _ => none
  | m + 1, x1, σ => if (198 : Int32) ≤ x1 then (f_city_31 n n (0 : Int32) σ) else (if inb x1 198 = true then ev (sa σ 15 (Int32.toNatClampNeg x1) (0 : Int32)) fun s3 => f_city_9 n m (x1 + (1 : Int32)) s3 else none)
set_option maxHeartbeats 4000000 in
theorem w_city_9 {K : KT} {M : MT} {r : Int32} {τ : MS} (n : Nat) (C : Kok K cX10_city 3 RX10) (B : MB K M) (hr : (kMe K).sig.returnType = some .int) (dK : kR K = rmD 8) (hQ : KQm K M (some (.int r)) τ) : ∀ (m : Nat) (x1 : Int32) (σ : MS) (hf : f_city_9 n m x1 σ = some (r, τ)), XJ K 3 (Wm K M σ) 9 [(0, .ref (mO M)), (1, .int x1)] [] := by
  intro m
  induction m with
  | zero => intro x1 σ hf; cases hf
  | succ m ih =>
    intro x1 σ hf
    rw [f_city_9] at hf
    refine x_iload_n C dX10_city_9 1 rfl ?_
    refine x_sipush (198 : Int32) C dX10_city_10 (by decide) ?_
    refine x_icmp_ge (tgt := 29) C dX10_city_13 (by decide) (fun c1 => ?_) (fun c1 => ?_)
    · have hf := pf_t c1 hf
      refine x_iconst (0 : Int32) C dX10_city_29 (by decide) ?_
      refine x_istore_n (L' := [(0, .ref (mO M)), (1, .int (0 : Int32))]) C dX10_city_30 (Nat.le_of_ble_eq_true rfl) [1, 0] rfl ?_
      exact w_city_31 n C B hr dK hQ n (0 : Int32) _ hf
    · have hf := pf_f c1 hf
      refine x_aload_n C dX10_city_16 0 rfl ?_
      refine mg_15 C B dX10_city_17 ?_
      refine x_iload_n C dX10_city_20 1 rfl ?_
      refine x_iconst (0 : Int32) C dX10_city_21 (by decide) ?_
      obtain ⟨h2, hf⟩ := pf_in hf
      refine ms_15 C B h2 dX10_city_22 ?_
      obtain ⟨s3, es3, hf⟩ := pf_e hf
      refine m_ren es3 ?_
      refine x_inc (c := (1 : Int32)) (L' := [(0, .ref (mO M)), (1, .int (x1 + (1 : Int32)))]) C dX10_city_23 1 rfl (by decide) (Nat.le_of_ble_eq_true rfl) [1, 0] rfl ?_
      refine x_goto (tgt := 9) C dX10_city_26 (by decide) ?_
      exact ih (x1 + (1 : Int32)) _ hf
def f_city (n : Nat) (σ : MS) : Option (Int32 × MS) := (f_begin n (900 : Int32) σ).bind fun r1 => f_city_9 n n (0 : Int32) r1
set_option maxHeartbeats 4000000 in
theorem w_city_E {K : KT} {M : MT} {r : Int32} {τ : MS} (n : Nat) (C : Kok K cX10_city 3 RX10) (B : MB K M) (hr : (kMe K).sig.returnType = some .int) (dK : kR K = rmD 8) (hQ : KQm K M (some (.int r)) τ) (σ : MS) (hf : f_city n σ = some (r, τ)) : XJ K 3 (Wm K M σ) 0 [(0, .ref (mO M))] [] := by
  unfold f_city at hf
  refine x_aload_n C dX10_city_0 0 rfl ?_
  refine x_sipush (900 : Int32) C dX10_city_1 (by decide) ?_
  obtain ⟨r1, er1, hf⟩ := pf_b hf
  refine mc_begin C B dK (Nat.le_of_ble_eq_true rfl) er1 (Nat.le_of_ble_eq_true rfl) dX10_city_4 ?_
  refine x_iconst (0 : Int32) C dX10_city_7 (by decide) ?_
  refine x_istore_n (L' := [(0, .ref (mO M)), (1, .int (0 : Int32))]) C dX10_city_8 (Nat.le_of_ble_eq_true rfl) [1, 0] rfl ?_
  exact w_city_9 n C B hr dK hQ n (0 : Int32) _ hf
theorem met_city {M : MT} {v : (Int32 × MS)} {n : Nat} {σ : MS} {l : Launch} (hc : (mCl M)[mCi M]? = some (RX10, TX10, 61)) (hf : f_city n σ = some v) : Met l yX10_city (ws_ yX10_city cX10_city 3 (some .int)) (rmD 8) (va_Pc [.ref (mO M)] (MU M σ)) (Qm M (some (.int v.1)) v.2) 0 0 (mAd M) :=
  m_met [.ref (mO M)] (by decide) rfl (Nat.le_of_ble_eq_true rfl) hc (fun K hl hR hr C B hQ => w_city_E _ C B hr hR hQ _ hf)
def f_fault (σ : MS) : (Int32 × MS) := ev (si σ 0 (0 : Int32)) fun s1 => (gi s1 10, s1)
set_option maxHeartbeats 4000000 in
theorem w_fault_E {K : KT} {M : MT} {r : Int32} {τ : MS} (C : Kok K cX10_fault 1 RX10) (B : MB K M) (hr : (kMe K).sig.returnType = some .int) (dK : kR K = rmD 1) (hQ : KQm K M (some (.int r)) τ) (σ : MS) (hf : f_fault σ = (r, τ)) : XJ K 1 (Wm K M σ) 0 [(0, .ref (mO M))] [] := by
  unfold f_fault at hf
  refine x_aload_n C dX10_fault_0 0 rfl ?_
  refine x_iconst (0 : Int32) C dX10_fault_1 (by decide) ?_
  refine mp_0 C B dX10_fault_2 ?_
  obtain ⟨s1, es1, hf⟩ := pf_e hf
  refine m_ren es1 ?_
  refine x_aload_n C dX10_fault_5 0 rfl ?_
  refine mg_10 C B dX10_fault_6 ?_
  obtain ⟨rfl, rfl⟩ := Prod.mk.inj hf
  exact m_iret C hr hQ dX10_fault_9
theorem met_fault {M : MT} {v : (Int32 × MS)} {σ : MS} {l : Launch} (hc : (mCl M)[mCi M]? = some (RX10, TX10, 61)) (hf : f_fault σ = v) : Met l yX10_fault (ws_ yX10_fault cX10_fault 1 (some .int)) (rmD 1) (va_Pc [.ref (mO M)] (MU M σ)) (Qm M (some (.int v.1)) v.2) 0 0 (mAd M) :=
  m_met [.ref (mO M)] (by decide) rfl (Nat.le_of_ble_eq_true rfl) hc (fun K hl hR hr C B hQ => w_fault_E C B hr hR hQ _ hf)
def f_comes_2 (n : Nat) (σ : MS) : Nat → Int32 → Int32 → Int32 → Option Int32
  | 0, _, _, _ => none
  | m + 1, x1, x2, x3 => if inb ((126 : Int32) + x1) 532 = true then if (ga σ 14 (Int32.toNatClampNeg ((126 : Int32) + x1))) ≤ x3 then (some (0 : Int32)) else (if inb (((134 : Int32) + ((8 : Int32) * x1)) + x3) 532 = true then if (ga σ 14 (Int32.toNatClampNeg (((134 : Int32) + ((8 : Int32) * x1)) + x3))) = x2 then (some (1 : Int32)) else (f_comes_2 n σ m x1 x2 (x3 + (1 : Int32))) else none) else none
set_option maxHeartbeats 4000000 in
theorem w_comes_2 {K : KT} {M : MT} {r : Int32} (n : Nat) (σ : MS) (C : Kok K cX10_comes 4 RX10) (B : MB K M) (hr : (kMe K).sig.returnType = some .boolean) (dK : kR K = rmD 1) (hQ : KQm K M (some (.int r)) σ) : ∀ (m : Nat) (x1 : Int32) (x2 : Int32) (x3 : Int32) (hf : f_comes_2 n σ m x1 x2 x3 = some r), XJ K 4 (Wm K M σ) 2 [(0, .ref (mO M)), (1, .int x1), (2, .int x2), (3, .int x3)] [] := by
  intro m
  induction m with
  | zero => intro x1 x2 x3 hf; cases hf
  | succ m ih =>
    intro x1 x2 x3 hf
    rw [f_comes_2] at hf
    refine x_iload_n C dX10_comes_2 3 rfl ?_
    refine x_aload_n C dX10_comes_3 0 rfl ?_
    refine mg_14 C B dX10_comes_4 ?_
    refine x_bipush (126 : Int32) C dX10_comes_7 (by decide) ?_
    refine x_iload_n C dX10_comes_9 1 rfl ?_
    refine x_iadd C dX10_comes_10 ?_
    obtain ⟨h1, hf⟩ := pf_in hf
    refine ml_14 C B h1 dX10_comes_11 ?_
    refine x_icmp_ge (tgt := 42) C dX10_comes_12 (by decide) (fun c2 => ?_) (fun c2 => ?_)
    · have hf := pf_t c2 hf
      refine x_iconst (0 : Int32) C dX10_comes_42 (by decide) ?_
      obtain rfl := Option.some.inj hf
      exact m_zret C hr (Or.inl rfl) hQ dX10_comes_43
    · have hf := pf_f c2 hf
      refine x_aload_n C dX10_comes_15 0 rfl ?_
      refine mg_14 C B dX10_comes_16 ?_
      refine x_sipush (134 : Int32) C dX10_comes_19 (by decide) ?_
      refine x_bipush (8 : Int32) C dX10_comes_22 (by decide) ?_
      refine x_iload_n C dX10_comes_24 1 rfl ?_
      refine x_imul C dX10_comes_25 ?_
      refine x_iadd C dX10_comes_26 ?_
      refine x_iload_n C dX10_comes_27 3 rfl ?_
      refine x_iadd C dX10_comes_28 ?_
      obtain ⟨h3, hf⟩ := pf_in hf
      refine ml_14 C B h3 dX10_comes_29 ?_
      refine x_iload_n C dX10_comes_30 2 rfl ?_
      refine x_icmp_ne (tgt := 36) C dX10_comes_31 (by decide) (fun c4 => ?_) (fun c4 => ?_)
      · have hf := pf_f c4 hf
        refine x_inc (c := (1 : Int32)) (L' := [(0, .ref (mO M)), (1, .int x1), (2, .int x2), (3, .int (x3 + (1 : Int32)))]) C dX10_comes_36 3 rfl (by decide) (Nat.le_of_ble_eq_true rfl) [1, 2, 3, 0] rfl ?_
        refine x_goto (tgt := 2) C dX10_comes_39 (by decide) ?_
        exact ih x1 x2 (x3 + (1 : Int32)) hf
      · have hf := pf_t c4 hf
        refine x_iconst (1 : Int32) C dX10_comes_34 (by decide) ?_
        obtain rfl := Option.some.inj hf
        exact m_zret C hr (Or.inr rfl) hQ dX10_comes_35
theorem bz_comes_2 {r : Int32} {n : Nat} {σ : MS} : ∀ (m : Nat) (x1 : Int32) (x2 : Int32) (x3 : Int32) (hf : f_comes_2 n σ m x1 x2 x3 = some r), r = 0 ∨ r = 1 := by
  intro m
  induction m with
  | zero => intro x1 x2 x3 hf; cases hf
  | succ m ih =>
    intro x1 x2 x3 hf
    rw [f_comes_2] at hf
    obtain ⟨h1, hf⟩ := pf_in hf
    by_cases c2 : (ga σ 14 (Int32.toNatClampNeg ((126 : Int32) + x1))) ≤ x3
    · have hf := pf_t c2 hf
      obtain rfl := Option.some.inj hf
      exact (Or.inl rfl)
    · have hf := pf_f c2 hf
      obtain ⟨h3, hf⟩ := pf_in hf
      by_cases c4 : (ga σ 14 (Int32.toNatClampNeg (((134 : Int32) + ((8 : Int32) * x1)) + x3))) = x2
      · have hf := pf_t c4 hf
        obtain rfl := Option.some.inj hf
        exact (Or.inr rfl)
      · have hf := pf_f c4 hf
        exact ih x1 x2 (x3 + (1 : Int32)) hf
def f_comes (n : Nat) (σ : MS) (x1 : Int32) (x2 : Int32) : Option Int32 := f_comes_2 n σ n x1 x2 (0 : Int32)
set_option maxHeartbeats 4000000 in
theorem w_comes_E {K : KT} {M : MT} {r : Int32} (n : Nat) (σ : MS) (C : Kok K cX10_comes 4 RX10) (B : MB K M) (hr : (kMe K).sig.returnType = some .boolean) (dK : kR K = rmD 1) (hQ : KQm K M (some (.int r)) σ) (x1 : Int32) (x2 : Int32) (hf : f_comes n σ x1 x2 = some r) : XJ K 4 (Wm K M σ) 0 [(0, .ref (mO M)), (1, .int x1), (2, .int x2)] [] := by
  unfold f_comes at hf
  refine x_iconst (0 : Int32) C dX10_comes_0 (by decide) ?_
  refine x_istore_n (L' := [(0, .ref (mO M)), (1, .int x1), (2, .int x2), (3, .int (0 : Int32))]) C dX10_comes_1 (Nat.le_of_ble_eq_true rfl) [1, 2, 3, 0] rfl ?_
  exact w_comes_2 n σ C B hr dK hQ n x1 x2 (0 : Int32) hf
theorem bz_comes_E {r : Int32} {n : Nat} {σ : MS} {x1 : Int32} {x2 : Int32} (hf : f_comes n σ x1 x2 = some r) : r = 0 ∨ r = 1 := by
  unfold f_comes at hf
  exact bz_comes_2 n x1 x2 (0 : Int32) hf
theorem met_comes {M : MT} {v : Int32} {n : Nat} {σ : MS} {x1 : Int32} {x2 : Int32} {l : Launch} (hc : (mCl M)[mCi M]? = some (RX10, TX10, 61)) (hf : f_comes n σ x1 x2 = some v) : Met l yX10_comes (ws_ yX10_comes cX10_comes 4 (some .boolean)) (rmD 1) (va_Pc [.ref (mO M), .int x1, .int x2] (MU M σ)) (Qm M (some (.int v)) σ) 0 0 (mAd M) :=
  m_met [.ref (mO M), .int x1, .int x2] (by decide) rfl (Nat.le_of_ble_eq_true rfl) hc (fun K hl hR hr C B hQ => w_comes_E _ _ C B hr hR hQ _ _ hf)
theorem mc_comes {K : KT} {M : MT} {cc : ByteArray} {nL pc dk : Nat} {L : List (Nat × Value)} {rest : List Value} {σ : MS} {v : Int32} {n : Nat} {x1 : Int32} {x2 : Int32} (C : Kok K cc nL RX10) (B : MB K M) (dK : kR K = rmD dk) (hd : 1 + 1 ≤ dk) (hf : f_comes n σ x1 x2 = some v) (hW : (rest.map fun v => v.category).sum ≤ 8) (dd : decode cc pc = .ok (.invokevirtual 273, 3)) (kk2 : XJ K nL (Wm K M σ) (pc + 3) L ((.int v) :: rest)) : XJ K nL (Wm K M σ) pc L (.int x2 :: .int x1 :: .ref (mO M) :: rest) :=
  m_callV (rest := rest) (v := (some (.int v))) [.int x1, .int x2] 2 rfl C B dK hd (Nat.le_of_ble_eq_true rfl) (lw_V q2120 q2122 qs67 q133 q2123) (by decide +kernel) (met_comes B.2 hf) rfl hW dd kk2
def f_isSquare (σ : MS) (x1 : Int32) : Int32 := f_isIn x1 (0 : Int32) ((ga σ 14 0) - (1 : Int32))
set_option maxHeartbeats 4000000 in
theorem w_isSquare_E {K : KT} {M : MT} {r : Int32} (σ : MS) (C : Kok K cX10_isSquare 2 RX10) (B : MB K M) (hr : (kMe K).sig.returnType = some .boolean) (dK : kR K = rmD 2) (hQ : KQm K M (some (.int r)) σ) (x1 : Int32) (hf : f_isSquare σ x1 = r) : XJ K 2 (Wm K M σ) 0 [(0, .ref (mO M)), (1, .int x1)] [] := by
  unfold f_isSquare at hf
  refine x_iload_n C dX10_isSquare_0 1 rfl ?_
  refine x_iconst (0 : Int32) C dX10_isSquare_1 (by decide) ?_
  refine x_aload_n C dX10_isSquare_2 0 rfl ?_
  refine mg_14 C B dX10_isSquare_3 ?_
  refine x_iconst (0 : Int32) C dX10_isSquare_6 (by decide) ?_
  refine mlc_14 0 C B (by decide +kernel) dX10_isSquare_7 ?_
  refine x_iconst (1 : Int32) C dX10_isSquare_8 (by decide) ?_
  refine x_isub C dX10_isSquare_9 ?_
  refine mc_isIn C B dK (Nat.le_of_ble_eq_true rfl) rfl (Nat.le_of_ble_eq_true rfl) dX10_isSquare_10 ?_
  subst hf
  exact m_zret C hr (bz_isIn_E rfl) hQ dX10_isSquare_13
theorem bz_isSquare_E {r : Int32} {σ : MS} {x1 : Int32} (hf : f_isSquare σ x1 = r) : r = 0 ∨ r = 1 := by
  unfold f_isSquare at hf
  subst hf
  exact (bz_isIn_E rfl)
theorem met_isSquare {M : MT} {v : Int32} {σ : MS} {x1 : Int32} {l : Launch} (hc : (mCl M)[mCi M]? = some (RX10, TX10, 61)) (hf : f_isSquare σ x1 = v) : Met l yX10_isSquare (ws_ yX10_isSquare cX10_isSquare 2 (some .boolean)) (rmD 2) (va_Pc [.ref (mO M), .int x1] (MU M σ)) (Qm M (some (.int v)) σ) 0 0 (mAd M) :=
  m_met [.ref (mO M), .int x1] (by decide) rfl (Nat.le_of_ble_eq_true rfl) hc (fun K hl hR hr C B hQ => w_isSquare_E _ C B hr hR hQ _ hf)
theorem mc_isSquare {K : KT} {M : MT} {cc : ByteArray} {nL pc dk : Nat} {L : List (Nat × Value)} {rest : List Value} {σ : MS} {v : Int32} {x1 : Int32} (C : Kok K cc nL RX10) (B : MB K M) (dK : kR K = rmD dk) (hd : 2 + 1 ≤ dk) (hf : f_isSquare σ x1 = v) (hW : (rest.map fun v => v.category).sum ≤ 8) (dd : decode cc pc = .ok (.invokevirtual 267, 3)) (kk2 : XJ K nL (Wm K M σ) (pc + 3) L ((.int v) :: rest)) : XJ K nL (Wm K M σ) pc L (.int x1 :: .ref (mO M) :: rest) :=
  m_callV (rest := rest) (v := (some (.int v))) [.int x1] 1 rfl C B dK hd (Nat.le_of_ble_eq_true rfl) (lw_V q2112 q2114 qs65 q133 q2115) (by decide +kernel) (met_isSquare B.2 hf) rfl hW dd kk2
def f_standsAt_2 (n : Nat) (σ : MS) : Nat → Int32 → Int32 → Option Int32
  | 0, _, _ => none
  | m + 1, x1, x2 => if (ga σ 14 3) ≤ x2 then (some (-1 : Int32)) else (if inb ((210 : Int32) + x2) 532 = true then if (ga σ 14 (Int32.toNatClampNeg ((210 : Int32) + x2))) = x1 then (some x2) else (f_standsAt_2 n σ m x1 (x2 + (1 : Int32))) else none)
set_option maxHeartbeats 4000000 in
theorem w_standsAt_2 {K : KT} {M : MT} {r : Int32} (n : Nat) (σ : MS) (C : Kok K cX10_standsAt 3 RX10) (B : MB K M) (hr : (kMe K).sig.returnType = some .int) (dK : kR K = rmD 1) (hQ : KQm K M (some (.int r)) σ) : ∀ (m : Nat) (x1 : Int32) (x2 : Int32) (hf : f_standsAt_2 n σ m x1 x2 = some r), XJ K 3 (Wm K M σ) 2 [(0, .ref (mO M)), (1, .int x1), (2, .int x2)] [] := by
  intro m
  induction m with
  | zero => intro x1 x2 hf; cases hf
  | succ m ih =>
    intro x1 x2 hf
    rw [f_standsAt_2] at hf
    refine x_iload_n C dX10_standsAt_2 2 rfl ?_
    refine x_aload_n C dX10_standsAt_3 0 rfl ?_
    refine mg_14 C B dX10_standsAt_4 ?_
    refine x_iconst (3 : Int32) C dX10_standsAt_7 (by decide) ?_
    refine mlc_14 3 C B (by decide +kernel) dX10_standsAt_8 ?_
    refine x_icmp_ge (tgt := 34) C dX10_standsAt_9 (by decide) (fun c1 => ?_) (fun c1 => ?_)
    · have hf := pf_t c1 hf
      refine x_iconst (-1 : Int32) C dX10_standsAt_34 (by decide) ?_
      obtain rfl := Option.some.inj hf
      exact m_iret C hr hQ dX10_standsAt_35
    · have hf := pf_f c1 hf
      refine x_aload_n C dX10_standsAt_12 0 rfl ?_
      refine mg_14 C B dX10_standsAt_13 ?_
      refine x_sipush (210 : Int32) C dX10_standsAt_16 (by decide) ?_
      refine x_iload_n C dX10_standsAt_19 2 rfl ?_
      refine x_iadd C dX10_standsAt_20 ?_
      obtain ⟨h2, hf⟩ := pf_in hf
      refine ml_14 C B h2 dX10_standsAt_21 ?_
      refine x_iload_n C dX10_standsAt_22 1 rfl ?_
      refine x_icmp_ne (tgt := 28) C dX10_standsAt_23 (by decide) (fun c3 => ?_) (fun c3 => ?_)
      · have hf := pf_f c3 hf
        refine x_inc (c := (1 : Int32)) (L' := [(0, .ref (mO M)), (1, .int x1), (2, .int (x2 + (1 : Int32)))]) C dX10_standsAt_28 2 rfl (by decide) (Nat.le_of_ble_eq_true rfl) [1, 2, 0] rfl ?_
        refine x_goto (tgt := 2) C dX10_standsAt_31 (by decide) ?_
        exact ih x1 (x2 + (1 : Int32)) hf
      · have hf := pf_t c3 hf
        refine x_iload_n C dX10_standsAt_26 2 rfl ?_
        obtain rfl := Option.some.inj hf
        exact m_iret C hr hQ dX10_standsAt_27
def f_standsAt (n : Nat) (σ : MS) (x1 : Int32) : Option Int32 := f_standsAt_2 n σ n x1 (0 : Int32)
set_option maxHeartbeats 4000000 in
theorem w_standsAt_E {K : KT} {M : MT} {r : Int32} (n : Nat) (σ : MS) (C : Kok K cX10_standsAt 3 RX10) (B : MB K M) (hr : (kMe K).sig.returnType = some .int) (dK : kR K = rmD 1) (hQ : KQm K M (some (.int r)) σ) (x1 : Int32) (hf : f_standsAt n σ x1 = some r) : XJ K 3 (Wm K M σ) 0 [(0, .ref (mO M)), (1, .int x1)] [] := by
  unfold f_standsAt at hf
  refine x_iconst (0 : Int32) C dX10_standsAt_0 (by decide) ?_
  refine x_istore_n (L' := [(0, .ref (mO M)), (1, .int x1), (2, .int (0 : Int32))]) C dX10_standsAt_1 (Nat.le_of_ble_eq_true rfl) [1, 2, 0] rfl ?_
  exact w_standsAt_2 n σ C B hr dK hQ n x1 (0 : Int32) hf
theorem met_standsAt {M : MT} {v : Int32} {n : Nat} {σ : MS} {x1 : Int32} {l : Launch} (hc : (mCl M)[mCi M]? = some (RX10, TX10, 61)) (hf : f_standsAt n σ x1 = some v) : Met l yX10_standsAt (ws_ yX10_standsAt cX10_standsAt 3 (some .int)) (rmD 1) (va_Pc [.ref (mO M), .int x1] (MU M σ)) (Qm M (some (.int v)) σ) 0 0 (mAd M) :=
  m_met [.ref (mO M), .int x1] (by decide) rfl (Nat.le_of_ble_eq_true rfl) hc (fun K hl hR hr C B hQ => w_standsAt_E _ _ C B hr hR hQ _ hf)
theorem mc_standsAt {K : KT} {M : MT} {cc : ByteArray} {nL pc dk : Nat} {L : List (Nat × Value)} {rest : List Value} {σ : MS} {v : Int32} {n : Nat} {x1 : Int32} (C : Kok K cc nL RX10) (B : MB K M) (dK : kR K = rmD dk) (hd : 1 + 1 ≤ dk) (hf : f_standsAt n σ x1 = some v) (hW : (rest.map fun v => v.category).sum ≤ 8) (dd : decode cc pc = .ok (.invokevirtual 270, 3)) (kk2 : XJ K nL (Wm K M σ) (pc + 3) L ((.int v) :: rest)) : XJ K nL (Wm K M σ) pc L (.int x1 :: .ref (mO M) :: rest) :=
  m_callV (rest := rest) (v := (some (.int v))) [.int x1] 1 rfl C B dK hd (Nat.le_of_ble_eq_true rfl) (lw_V q2116 q2118 qs66 q133 q2119) (by decide +kernel) (met_standsAt B.2 hf) rfl hW dd kk2
def f_square_79 (n : Nat) : Nat → Int32 → Int32 → Int32 → MS → Option (Int32 × MS)
  | 0, _, _, _, _ => none
  | m + 1, x1, x3, x4, σ => if (ga σ 14 4) ≤ x4 then (some (x3, σ)) else ((f_comes n σ x4 x1).bind fun r2 => if r2 = 0 then (f_square_79 n m x1 x3 (x4 + (1 : Int32)) σ) else (ev (x3 ||| ((1 : Int32) <<< (x4 &&& 31))) fun v4 => f_square_79 n m x1 v4 (x4 + (1 : Int32)) σ))
set_option maxHeartbeats 4000000 in
theorem w_square_79 {K : KT} {M : MT} {r : Int32} {τ : MS} (n : Nat) (C : Kok K cX10_square 5 RX10) (B : MB K M) (hr : (kMe K).sig.returnType = some .int) (dK : kR K = rmD 3) (hQ : KQm K M (some (.int r)) τ) : ∀ (m : Nat) (x1 : Int32) (x3 : Int32) (x4 : Int32) (σ : MS) (hf : f_square_79 n m x1 x3 x4 σ = some (r, τ)), XJ K 5 (Wm K M σ) 79 [(0, .ref (mO M)), (1, .int x1), (3, .int x3), (4, .int x4)] [] := by
  intro m
  induction m with
  | zero => intro x1 x3 x4 σ hf; cases hf
  | succ m ih =>
    intro x1 x3 x4 σ hf
    rw [f_square_79] at hf
    refine x_iload C dX10_square_79 3 rfl ?_
    refine x_aload_n C dX10_square_81 0 rfl ?_
    refine mg_14 C B dX10_square_82 ?_
    refine x_iconst (4 : Int32) C dX10_square_85 (by decide) ?_
    refine mlc_14 4 C B (by decide +kernel) dX10_square_86 ?_
    refine x_icmp_ge (tgt := 113) C dX10_square_87 (by decide) (fun c1 => ?_) (fun c1 => ?_)
    · have hf := pf_t c1 hf
      refine x_iload_n C dX10_square_113 2 rfl ?_
      obtain ⟨rfl, rfl⟩ := Prod.mk.inj (Option.some.inj hf)
      exact m_iret C hr hQ dX10_square_114
    · have hf := pf_f c1 hf
      refine x_aload_n C dX10_square_90 0 rfl ?_
      refine x_iload C dX10_square_91 3 rfl ?_
      refine x_iload_n C dX10_square_93 1 rfl ?_
      obtain ⟨r2, er2, hf⟩ := pf_b hf
      refine mc_comes C B dK (Nat.le_of_ble_eq_true rfl) er2 (Nat.le_of_ble_eq_true rfl) dX10_square_94 ?_
      refine x_if_eq (tgt := 107) C dX10_square_97 (by decide) (fun c3 => ?_) (fun c3 => ?_)
      · have hf := pf_t c3 hf
        refine x_inc (c := (1 : Int32)) (L' := [(0, .ref (mO M)), (1, .int x1), (3, .int x3), (4, .int (x4 + (1 : Int32)))]) C dX10_square_107 3 rfl (by decide) (Nat.le_of_ble_eq_true rfl) [1, 2, 3, 0] rfl ?_
        refine x_goto (tgt := 79) C dX10_square_110 (by decide) ?_
        exact ih x1 x3 (x4 + (1 : Int32)) _ hf
      · have hf := pf_f c3 hf
        refine x_iload_n C dX10_square_100 2 rfl ?_
        refine x_iconst (1 : Int32) C dX10_square_101 (by decide) ?_
        refine x_iload C dX10_square_102 3 rfl ?_
        refine x_ishl C dX10_square_104 ?_
        refine x_ior C dX10_square_105 ?_
        obtain ⟨v4, ev4, hf⟩ := pf_e hf
        refine x_topir ev4 ?_
        refine x_istore_n (L' := [(0, .ref (mO M)), (1, .int x1), (3, .int v4), (4, .int x4)]) C dX10_square_106 (Nat.le_of_ble_eq_true rfl) [1, 2, 0, 3] rfl ?_
        refine x_inc (c := (1 : Int32)) (L' := [(0, .ref (mO M)), (1, .int x1), (3, .int v4), (4, .int (x4 + (1 : Int32)))]) C dX10_square_107 3 rfl (by decide) (Nat.le_of_ble_eq_true rfl) [1, 2, 3, 0] rfl ?_
        refine x_goto (tgt := 79) C dX10_square_110 (by decide) ?_
        exact ih x1 v4 (x4 + (1 : Int32)) _ hf
def f_square (n : Nat) (x1 : Int32) (x2 : Int32) (σ : MS) : Option (Int32 × MS) := ev (si σ 0 (0 : Int32)) fun s1 => if (f_isSquare s1 x1) = 0 then (some ((-1 : Int32), s1)) else (if x2 = (0 : Int32) then (if inb ((6 : Int32) + x1) 532 = true then some (ga s1 14 (Int32.toNatClampNeg ((6 : Int32) + x1)), s1) else none) else (if x2 = (1 : Int32) then ((f_standsAt n s1 x1).bind fun r8 => some (r8, s1)) else (if x2 = (2 : Int32) then (if inb ((14 : Int32) + x1) 532 = true then some (ga s1 14 (Int32.toNatClampNeg ((14 : Int32) + x1)), s1) else none) else (if x2 = (3 : Int32) then (f_square_79 n n x1 (0 : Int32) (0 : Int32) s1) else (some ((-1 : Int32), s1))))))
set_option maxHeartbeats 4000000 in
theorem w_square_E {K : KT} {M : MT} {r : Int32} {τ : MS} (n : Nat) (C : Kok K cX10_square 5 RX10) (B : MB K M) (hr : (kMe K).sig.returnType = some .int) (dK : kR K = rmD 3) (hQ : KQm K M (some (.int r)) τ) (x1 : Int32) (x2 : Int32) (σ : MS) (hf : f_square n x1 x2 σ = some (r, τ)) : XJ K 5 (Wm K M σ) 0 [(0, .ref (mO M)), (1, .int x1), (2, .int x2)] [] := by
  unfold f_square at hf
  refine x_aload_n C dX10_square_0 0 rfl ?_
  refine x_iconst (0 : Int32) C dX10_square_1 (by decide) ?_
  refine mp_0 C B dX10_square_2 ?_
  obtain ⟨s1, es1, hf⟩ := pf_e hf
  refine m_ren es1 ?_
  refine x_aload_n C dX10_square_5 0 rfl ?_
  refine x_iload_n C dX10_square_6 1 rfl ?_
  refine mc_isSquare C B dK (Nat.le_of_ble_eq_true rfl) rfl (Nat.le_of_ble_eq_true rfl) dX10_square_7 ?_
  refine x_if_ne (tgt := 15) C dX10_square_10 (by decide) (fun c2 => ?_) (fun c2 => ?_)
  · have hf := pf_f c2 hf
    refine x_iload_n C dX10_square_15 2 rfl ?_
    by_cases c3 : x2 = (0 : Int32)
    · have hf := pf_t c3 hf
      refine x_tableIn (off := 32) (tgt := 48) C dX10_square_16 (by rw [c3]; decide) (by rw [c3]; decide) (by rw [c3]; decide) (by decide) ?_
      refine x_aload_n C dX10_square_48 0 rfl ?_
      refine mg_14 C B dX10_square_49 ?_
      refine x_bipush (6 : Int32) C dX10_square_52 (by decide) ?_
      refine x_iload_n C dX10_square_54 1 rfl ?_
      refine x_iadd C dX10_square_55 ?_
      obtain ⟨h7, hf⟩ := pf_in hf
      refine ml_14 C B h7 dX10_square_56 ?_
      obtain ⟨rfl, rfl⟩ := Prod.mk.inj (Option.some.inj hf)
      exact m_iret C hr hQ dX10_square_57
    · have hf := pf_f c3 hf
      by_cases c4 : x2 = (1 : Int32)
      · have hf := pf_t c4 hf
        refine x_tableIn (off := 42) (tgt := 58) C dX10_square_16 (by rw [c4]; decide) (by rw [c4]; decide) (by rw [c4]; decide) (by decide) ?_
        refine x_aload_n C dX10_square_58 0 rfl ?_
        refine x_iload_n C dX10_square_59 1 rfl ?_
        obtain ⟨r8, er8, hf⟩ := pf_b hf
        refine mc_standsAt C B dK (Nat.le_of_ble_eq_true rfl) er8 (Nat.le_of_ble_eq_true rfl) dX10_square_60 ?_
        obtain ⟨rfl, rfl⟩ := Prod.mk.inj (Option.some.inj hf)
        exact m_iret C hr hQ dX10_square_63
      · have hf := pf_f c4 hf
        by_cases c5 : x2 = (2 : Int32)
        · have hf := pf_t c5 hf
          refine x_tableIn (off := 48) (tgt := 64) C dX10_square_16 (by rw [c5]; decide) (by rw [c5]; decide) (by rw [c5]; decide) (by decide) ?_
          refine x_aload_n C dX10_square_64 0 rfl ?_
          refine mg_14 C B dX10_square_65 ?_
          refine x_bipush (14 : Int32) C dX10_square_68 (by decide) ?_
          refine x_iload_n C dX10_square_70 1 rfl ?_
          refine x_iadd C dX10_square_71 ?_
          obtain ⟨h9, hf⟩ := pf_in hf
          refine ml_14 C B h9 dX10_square_72 ?_
          obtain ⟨rfl, rfl⟩ := Prod.mk.inj (Option.some.inj hf)
          exact m_iret C hr hQ dX10_square_73
        · have hf := pf_f c5 hf
          by_cases c6 : x2 = (3 : Int32)
          · have hf := pf_t c6 hf
            refine x_tableIn (off := 58) (tgt := 74) C dX10_square_16 (by rw [c6]; decide) (by rw [c6]; decide) (by rw [c6]; decide) (by decide) ?_
            refine x_iconst (0 : Int32) C dX10_square_74 (by decide) ?_
            refine x_istore_n (L' := [(0, .ref (mO M)), (1, .int x1), (3, .int (0 : Int32))]) C dX10_square_75 (Nat.le_of_ble_eq_true rfl) [1, 2, 0] rfl ?_
            refine x_iconst (0 : Int32) C dX10_square_76 (by decide) ?_
            refine x_istore (L' := [(0, .ref (mO M)), (1, .int x1), (3, .int (0 : Int32)), (4, .int (0 : Int32))]) C dX10_square_77 (Nat.le_of_ble_eq_true rfl) [1, 2, 3, 0] rfl ?_
            exact w_square_79 n C B hr dK hQ n x1 (0 : Int32) (0 : Int32) _ hf
          · have hf := pf_f c6 hf
            refine x_tableOut (tgt := 115) C dX10_square_16 (by have := lv_neT c3 (show (0 : Int32).toInt = (0 : Int) by decide); have := lv_neT c4 (show (1 : Int32).toInt = (1 : Int) by decide); have := lv_neT c5 (show (2 : Int32).toInt = (2 : Int) by decide); have := lv_neT c6 (show (3 : Int32).toInt = (3 : Int) by decide); omega) (by decide) ?_
            refine x_iconst (-1 : Int32) C dX10_square_115 (by decide) ?_
            obtain ⟨rfl, rfl⟩ := Prod.mk.inj (Option.some.inj hf)
            exact m_iret C hr hQ dX10_square_116
  · have hf := pf_t c2 hf
    refine x_iconst (-1 : Int32) C dX10_square_13 (by decide) ?_
    obtain ⟨rfl, rfl⟩ := Prod.mk.inj (Option.some.inj hf)
    exact m_iret C hr hQ dX10_square_14
theorem met_square {M : MT} {v : (Int32 × MS)} {n : Nat} {σ : MS} {x1 : Int32} {x2 : Int32} {l : Launch} (hc : (mCl M)[mCi M]? = some (RX10, TX10, 61)) (hf : f_square n x1 x2 σ = some v) : Met l yX10_square (ws_ yX10_square cX10_square 5 (some .int)) (rmD 3) (va_Pc [.ref (mO M), .int x1, .int x2] (MU M σ)) (Qm M (some (.int v.1)) v.2) 0 0 (mAd M) :=
  m_met [.ref (mO M), .int x1, .int x2] (by decide) rfl (Nat.le_of_ble_eq_true rfl) hc (fun K hl hR hr C B hQ => w_square_E _ C B hr hR hQ _ _ _ hf)
def f_isEvicted (σ : MS) (x1 : Int32) : Int32 := f_has (ga σ 14 201) x1
set_option maxHeartbeats 4000000 in
theorem w_isEvicted_E {K : KT} {M : MT} {r : Int32} (σ : MS) (C : Kok K cX10_isEvicted 2 RX10) (B : MB K M) (hr : (kMe K).sig.returnType = some .boolean) (dK : kR K = rmD 2) (hQ : KQm K M (some (.int r)) σ) (x1 : Int32) (hf : f_isEvicted σ x1 = r) : XJ K 2 (Wm K M σ) 0 [(0, .ref (mO M)), (1, .int x1)] [] := by
  unfold f_isEvicted at hf
  refine x_aload_n C dX10_isEvicted_0 0 rfl ?_
  refine mg_14 C B dX10_isEvicted_1 ?_
  refine x_sipush (201 : Int32) C dX10_isEvicted_4 (by decide) ?_
  refine mlc_14 201 C B (by decide +kernel) dX10_isEvicted_7 ?_
  refine x_iload_n C dX10_isEvicted_8 1 rfl ?_
  refine mc_has C B dK (Nat.le_of_ble_eq_true rfl) rfl (Nat.le_of_ble_eq_true rfl) dX10_isEvicted_9 ?_
  subst hf
  exact m_zret C hr (bz_has_E rfl) hQ dX10_isEvicted_12
theorem bz_isEvicted_E {r : Int32} {σ : MS} {x1 : Int32} (hf : f_isEvicted σ x1 = r) : r = 0 ∨ r = 1 := by
  unfold f_isEvicted at hf
  subst hf
  exact (bz_has_E rfl)
theorem met_isEvicted {M : MT} {v : Int32} {σ : MS} {x1 : Int32} {l : Launch} (hc : (mCl M)[mCi M]? = some (RX10, TX10, 61)) (hf : f_isEvicted σ x1 = v) : Met l yX10_isEvicted (ws_ yX10_isEvicted cX10_isEvicted 2 (some .boolean)) (rmD 2) (va_Pc [.ref (mO M), .int x1] (MU M σ)) (Qm M (some (.int v)) σ) 0 0 (mAd M) :=
  m_met [.ref (mO M), .int x1] (by decide) rfl (Nat.le_of_ble_eq_true rfl) hc (fun K hl hR hr C B hQ => w_isEvicted_E _ C B hr hR hQ _ hf)
theorem mc_isEvicted {K : KT} {M : MT} {cc : ByteArray} {nL pc dk : Nat} {L : List (Nat × Value)} {rest : List Value} {σ : MS} {v : Int32} {x1 : Int32} (C : Kok K cc nL RX10) (B : MB K M) (dK : kR K = rmD dk) (hd : 2 + 1 ≤ dk) (hf : f_isEvicted σ x1 = v) (hW : (rest.map fun v => v.category).sum ≤ 8) (dd : decode cc pc = .ok (.invokevirtual 282, 3)) (kk2 : XJ K nL (Wm K M σ) (pc + 3) L ((.int v) :: rest)) : XJ K nL (Wm K M σ) pc L (.int x1 :: .ref (mO M) :: rest) :=
  m_callV (rest := rest) (v := (some (.int v))) [.int x1] 1 rfl C B dK hd (Nat.le_of_ble_eq_true rfl) (lw_V q2136 q2138 qs70 q133 q2139) (by decide +kernel) (met_isEvicted B.2 hf) rfl hW dd kk2
def f_isStatue (σ : MS) (x1 : Int32) : Int32 := f_isIn x1 (0 : Int32) ((ga σ 14 3) - (1 : Int32))
set_option maxHeartbeats 4000000 in
theorem w_isStatue_E {K : KT} {M : MT} {r : Int32} (σ : MS) (C : Kok K cX10_isStatue 2 RX10) (B : MB K M) (hr : (kMe K).sig.returnType = some .boolean) (dK : kR K = rmD 2) (hQ : KQm K M (some (.int r)) σ) (x1 : Int32) (hf : f_isStatue σ x1 = r) : XJ K 2 (Wm K M σ) 0 [(0, .ref (mO M)), (1, .int x1)] [] := by
  unfold f_isStatue at hf
  refine x_iload_n C dX10_isStatue_0 1 rfl ?_
  refine x_iconst (0 : Int32) C dX10_isStatue_1 (by decide) ?_
  refine x_aload_n C dX10_isStatue_2 0 rfl ?_
  refine mg_14 C B dX10_isStatue_3 ?_
  refine x_iconst (3 : Int32) C dX10_isStatue_6 (by decide) ?_
  refine mlc_14 3 C B (by decide +kernel) dX10_isStatue_7 ?_
  refine x_iconst (1 : Int32) C dX10_isStatue_8 (by decide) ?_
  refine x_isub C dX10_isStatue_9 ?_
  refine mc_isIn C B dK (Nat.le_of_ble_eq_true rfl) rfl (Nat.le_of_ble_eq_true rfl) dX10_isStatue_10 ?_
  subst hf
  exact m_zret C hr (bz_isIn_E rfl) hQ dX10_isStatue_13
theorem bz_isStatue_E {r : Int32} {σ : MS} {x1 : Int32} (hf : f_isStatue σ x1 = r) : r = 0 ∨ r = 1 := by
  unfold f_isStatue at hf
  subst hf
  exact (bz_isIn_E rfl)
theorem met_isStatue {M : MT} {v : Int32} {σ : MS} {x1 : Int32} {l : Launch} (hc : (mCl M)[mCi M]? = some (RX10, TX10, 61)) (hf : f_isStatue σ x1 = v) : Met l yX10_isStatue (ws_ yX10_isStatue cX10_isStatue 2 (some .boolean)) (rmD 2) (va_Pc [.ref (mO M), .int x1] (MU M σ)) (Qm M (some (.int v)) σ) 0 0 (mAd M) :=
  m_met [.ref (mO M), .int x1] (by decide) rfl (Nat.le_of_ble_eq_true rfl) hc (fun K hl hR hr C B hQ => w_isStatue_E _ C B hr hR hQ _ hf)
theorem mc_isStatue {K : KT} {M : MT} {cc : ByteArray} {nL pc dk : Nat} {L : List (Nat × Value)} {rest : List Value} {σ : MS} {v : Int32} {x1 : Int32} (C : Kok K cc nL RX10) (B : MB K M) (dK : kR K = rmD dk) (hd : 2 + 1 ≤ dk) (hf : f_isStatue σ x1 = v) (hW : (rest.map fun v => v.category).sum ≤ 8) (dd : decode cc pc = .ok (.invokevirtual 276, 3)) (kk2 : XJ K nL (Wm K M σ) (pc + 3) L ((.int v) :: rest)) : XJ K nL (Wm K M σ) pc L (.int x1 :: .ref (mO M) :: rest) :=
  m_callV (rest := rest) (v := (some (.int v))) [.int x1] 1 rfl C B dK hd (Nat.le_of_ble_eq_true rfl) (lw_V q2128 q2130 qs68 q133 q2131) (by decide +kernel) (met_isStatue B.2 hf) rfl hW dd kk2
def f_refuse (σ : MS) : (Int32 × MS) := ev (si σ 0 (1 : Int32)) fun s1 => ((0 : Int32), s1)
set_option maxHeartbeats 4000000 in
theorem w_refuse_E {K : KT} {M : MT} {r : Int32} {τ : MS} (C : Kok K cX10_refuse 1 RX10) (B : MB K M) (hr : (kMe K).sig.returnType = some .int) (dK : kR K = rmD 1) (hQ : KQm K M (some (.int r)) τ) (σ : MS) (hf : f_refuse σ = (r, τ)) : XJ K 1 (Wm K M σ) 0 [(0, .ref (mO M))] [] := by
  unfold f_refuse at hf
  refine x_aload_n C dX10_refuse_0 0 rfl ?_
  refine x_iconst (1 : Int32) C dX10_refuse_1 (by decide) ?_
  refine mp_0 C B dX10_refuse_2 ?_
  obtain ⟨s1, es1, hf⟩ := pf_e hf
  refine m_ren es1 ?_
  refine x_iconst (0 : Int32) C dX10_refuse_5 (by decide) ?_
  obtain ⟨rfl, rfl⟩ := Prod.mk.inj hf
  exact m_iret C hr hQ dX10_refuse_6
theorem met_refuse {M : MT} {v : (Int32 × MS)} {σ : MS} {l : Launch} (hc : (mCl M)[mCi M]? = some (RX10, TX10, 61)) (hf : f_refuse σ = v) : Met l yX10_refuse (ws_ yX10_refuse cX10_refuse 1 (some .int)) (rmD 1) (va_Pc [.ref (mO M)] (MU M σ)) (Qm M (some (.int v.1)) v.2) 0 0 (mAd M) :=
  m_met [.ref (mO M)] (by decide) rfl (Nat.le_of_ble_eq_true rfl) hc (fun K hl hR hr C B hQ => w_refuse_E C B hr hR hQ _ hf)
theorem mc_refuse {K : KT} {M : MT} {cc : ByteArray} {nL pc dk : Nat} {L : List (Nat × Value)} {rest : List Value} {σ : MS} {v : (Int32 × MS)} (C : Kok K cc nL RX10) (B : MB K M) (dK : kR K = rmD dk) (hd : 1 + 1 ≤ dk) (hf : f_refuse σ = v) (hW : (rest.map fun v => v.category).sum ≤ 8) (dd : decode cc pc = .ok (.invokevirtual 279, 3)) (kk2 : XJ K nL (Wm K M v.2) (pc + 3) L ((.int v.1) :: rest)) : XJ K nL (Wm K M σ) pc L (.ref (mO M) :: rest) :=
  m_callV (rest := rest) (v := (some (.int v.1))) [] 0 rfl C B dK hd (Nat.le_of_ble_eq_true rfl) (lw_V q2132 q2134 qs69 q133 q2135) (by decide +kernel) (met_refuse B.2 hf) rfl hW dd kk2
def f_statue (x1 : Int32) (x2 : Int32) (σ : MS) : Option (Int32 × MS) := ev (si σ 0 (0 : Int32)) fun s1 => if (f_isStatue s1 x1) = 0 then (ev (f_refuse s1) fun r20 => some (r20.1, r20.2)) else (if x2 = (0 : Int32) then (if inb ((202 : Int32) + x1) 532 = true then some (ga s1 14 (Int32.toNatClampNeg ((202 : Int32) + x1)), s1) else none) else (if x2 = (1 : Int32) then (if inb ((210 : Int32) + x1) 532 = true then some (ga s1 14 (Int32.toNatClampNeg ((210 : Int32) + x1)), s1) else none) else (if x2 = (2 : Int32) then (if inb ((218 : Int32) + x1) 532 = true then some (ga s1 14 (Int32.toNatClampNeg ((218 : Int32) + x1)), s1) else none) else (if x2 = (3 : Int32) then (if inb ((226 : Int32) + x1) 532 = true then some (ga s1 14 (Int32.toNatClampNeg ((226 : Int32) + x1)), s1) else none) else (if x2 = (4 : Int32) then (if inb ((46 : Int32) + x1) 532 = true then some (ga s1 14 (Int32.toNatClampNeg ((46 : Int32) + x1)), s1) else none) else (if x2 = (5 : Int32) then (if (f_has (ga s1 14 200) x1) = 0 then (some ((0 : Int32), s1)) else (some ((1 : Int32), s1))) else (if x2 = (6 : Int32) then (if inb ((234 : Int32) + x1) 532 = true then some (ga s1 14 (Int32.toNatClampNeg ((234 : Int32) + x1)), s1) else none) else (if x2 = (7 : Int32) then (if (f_isEvicted s1 x1) = 0 then (some ((0 : Int32), s1)) else (some ((1 : Int32), s1))) else (ev (f_refuse s1) fun r19 => some (r19.1, r19.2))))))))))
set_option maxHeartbeats 4000000 in
theorem w_statue_E {K : KT} {M : MT} {r : Int32} {τ : MS} (C : Kok K cX10_statue 3 RX10) (B : MB K M) (hr : (kMe K).sig.returnType = some .int) (dK : kR K = rmD 3) (hQ : KQm K M (some (.int r)) τ) (x1 : Int32) (x2 : Int32) (σ : MS) (hf : f_statue x1 x2 σ = some (r, τ)) : XJ K 3 (Wm K M σ) 0 [(0, .ref (mO M)), (1, .int x1), (2, .int x2)] [] := by
  unfold f_statue at hf
  refine x_aload_n C dX10_statue_0 0 rfl ?_
  refine x_iconst (0 : Int32) C dX10_statue_1 (by decide) ?_
  refine mp_0 C B dX10_statue_2 ?_
  obtain ⟨s1, es1, hf⟩ := pf_e hf
  refine m_ren es1 ?_
  refine x_aload_n C dX10_statue_5 0 rfl ?_
  refine x_iload_n C dX10_statue_6 1 rfl ?_
  refine mc_isStatue C B dK (Nat.le_of_ble_eq_true rfl) rfl (Nat.le_of_ble_eq_true rfl) dX10_statue_7 ?_
  refine x_if_ne (tgt := 18) C dX10_statue_10 (by decide) (fun c2 => ?_) (fun c2 => ?_)
  · have hf := pf_f c2 hf
    refine x_iload_n C dX10_statue_18 2 rfl ?_
    by_cases c3 : x2 = (0 : Int32)
    · have hf := pf_t c3 hf
      refine x_tableIn (off := 45) (tgt := 64) C dX10_statue_19 (by rw [c3]; decide) (by rw [c3]; decide) (by rw [c3]; decide) (by decide) ?_
      refine x_aload_n C dX10_statue_64 0 rfl ?_
      refine mg_14 C B dX10_statue_65 ?_
      refine x_sipush (202 : Int32) C dX10_statue_68 (by decide) ?_
      refine x_iload_n C dX10_statue_71 1 rfl ?_
      refine x_iadd C dX10_statue_72 ?_
      obtain ⟨h11, hf⟩ := pf_in hf
      refine ml_14 C B h11 dX10_statue_73 ?_
      obtain ⟨rfl, rfl⟩ := Prod.mk.inj (Option.some.inj hf)
      exact m_iret C hr hQ dX10_statue_74
    · have hf := pf_f c3 hf
      by_cases c4 : x2 = (1 : Int32)
      · have hf := pf_t c4 hf
        refine x_tableIn (off := 56) (tgt := 75) C dX10_statue_19 (by rw [c4]; decide) (by rw [c4]; decide) (by rw [c4]; decide) (by decide) ?_
        refine x_aload_n C dX10_statue_75 0 rfl ?_
        refine mg_14 C B dX10_statue_76 ?_
        refine x_sipush (210 : Int32) C dX10_statue_79 (by decide) ?_
        refine x_iload_n C dX10_statue_82 1 rfl ?_
        refine x_iadd C dX10_statue_83 ?_
        obtain ⟨h12, hf⟩ := pf_in hf
        refine ml_14 C B h12 dX10_statue_84 ?_
        obtain ⟨rfl, rfl⟩ := Prod.mk.inj (Option.some.inj hf)
        exact m_iret C hr hQ dX10_statue_85
      · have hf := pf_f c4 hf
        by_cases c5 : x2 = (2 : Int32)
        · have hf := pf_t c5 hf
          refine x_tableIn (off := 67) (tgt := 86) C dX10_statue_19 (by rw [c5]; decide) (by rw [c5]; decide) (by rw [c5]; decide) (by decide) ?_
          refine x_aload_n C dX10_statue_86 0 rfl ?_
          refine mg_14 C B dX10_statue_87 ?_
          refine x_sipush (218 : Int32) C dX10_statue_90 (by decide) ?_
          refine x_iload_n C dX10_statue_93 1 rfl ?_
          refine x_iadd C dX10_statue_94 ?_
          obtain ⟨h13, hf⟩ := pf_in hf
          refine ml_14 C B h13 dX10_statue_95 ?_
          obtain ⟨rfl, rfl⟩ := Prod.mk.inj (Option.some.inj hf)
          exact m_iret C hr hQ dX10_statue_96
        · have hf := pf_f c5 hf
          by_cases c6 : x2 = (3 : Int32)
          · have hf := pf_t c6 hf
            refine x_tableIn (off := 78) (tgt := 97) C dX10_statue_19 (by rw [c6]; decide) (by rw [c6]; decide) (by rw [c6]; decide) (by decide) ?_
            refine x_aload_n C dX10_statue_97 0 rfl ?_
            refine mg_14 C B dX10_statue_98 ?_
            refine x_sipush (226 : Int32) C dX10_statue_101 (by decide) ?_
            refine x_iload_n C dX10_statue_104 1 rfl ?_
            refine x_iadd C dX10_statue_105 ?_
            obtain ⟨h14, hf⟩ := pf_in hf
            refine ml_14 C B h14 dX10_statue_106 ?_
            obtain ⟨rfl, rfl⟩ := Prod.mk.inj (Option.some.inj hf)
            exact m_iret C hr hQ dX10_statue_107
          · have hf := pf_f c6 hf
            by_cases c7 : x2 = (4 : Int32)
            · have hf := pf_t c7 hf
              refine x_tableIn (off := 89) (tgt := 108) C dX10_statue_19 (by rw [c7]; decide) (by rw [c7]; decide) (by rw [c7]; decide) (by decide) ?_
              refine x_aload_n C dX10_statue_108 0 rfl ?_
              refine mg_14 C B dX10_statue_109 ?_
              refine x_bipush (46 : Int32) C dX10_statue_112 (by decide) ?_
              refine x_iload_n C dX10_statue_114 1 rfl ?_
              refine x_iadd C dX10_statue_115 ?_
              obtain ⟨h15, hf⟩ := pf_in hf
              refine ml_14 C B h15 dX10_statue_116 ?_
              obtain ⟨rfl, rfl⟩ := Prod.mk.inj (Option.some.inj hf)
              exact m_iret C hr hQ dX10_statue_117
            · have hf := pf_f c7 hf
              by_cases c8 : x2 = (5 : Int32)
              · have hf := pf_t c8 hf
                refine x_tableIn (off := 99) (tgt := 118) C dX10_statue_19 (by rw [c8]; decide) (by rw [c8]; decide) (by rw [c8]; decide) (by decide) ?_
                refine x_aload_n C dX10_statue_118 0 rfl ?_
                refine mg_14 C B dX10_statue_119 ?_
                refine x_sipush (200 : Int32) C dX10_statue_122 (by decide) ?_
                refine mlc_14 200 C B (by decide +kernel) dX10_statue_125 ?_
                refine x_iload_n C dX10_statue_126 1 rfl ?_
                refine mc_has C B dK (Nat.le_of_ble_eq_true rfl) rfl (Nat.le_of_ble_eq_true rfl) dX10_statue_127 ?_
                refine x_if_eq (tgt := 137) C dX10_statue_130 (by decide) (fun c16 => ?_) (fun c16 => ?_)
                · have hf := pf_t c16 hf
                  refine x_iconst (0 : Int32) C dX10_statue_137 (by decide) ?_
                  obtain ⟨rfl, rfl⟩ := Prod.mk.inj (Option.some.inj hf)
                  exact m_iret C hr hQ dX10_statue_138
                · have hf := pf_f c16 hf
                  refine x_iconst (1 : Int32) C dX10_statue_133 (by decide) ?_
                  refine x_goto (tgt := 138) C dX10_statue_134 (by decide) ?_
                  obtain ⟨rfl, rfl⟩ := Prod.mk.inj (Option.some.inj hf)
                  exact m_iret C hr hQ dX10_statue_138
              · have hf := pf_f c8 hf
                by_cases c9 : x2 = (6 : Int32)
                · have hf := pf_t c9 hf
                  refine x_tableIn (off := 120) (tgt := 139) C dX10_statue_19 (by rw [c9]; decide) (by rw [c9]; decide) (by rw [c9]; decide) (by decide) ?_
                  refine x_aload_n C dX10_statue_139 0 rfl ?_
                  refine mg_14 C B dX10_statue_140 ?_
                  refine x_sipush (234 : Int32) C dX10_statue_143 (by decide) ?_
                  refine x_iload_n C dX10_statue_146 1 rfl ?_
                  refine x_iadd C dX10_statue_147 ?_
                  obtain ⟨h17, hf⟩ := pf_in hf
                  refine ml_14 C B h17 dX10_statue_148 ?_
                  obtain ⟨rfl, rfl⟩ := Prod.mk.inj (Option.some.inj hf)
                  exact m_iret C hr hQ dX10_statue_149
                · have hf := pf_f c9 hf
                  by_cases c10 : x2 = (7 : Int32)
                  · have hf := pf_t c10 hf
                    refine x_tableIn (off := 131) (tgt := 150) C dX10_statue_19 (by rw [c10]; decide) (by rw [c10]; decide) (by rw [c10]; decide) (by decide) ?_
                    refine x_aload_n C dX10_statue_150 0 rfl ?_
                    refine x_iload_n C dX10_statue_151 1 rfl ?_
                    refine mc_isEvicted C B dK (Nat.le_of_ble_eq_true rfl) rfl (Nat.le_of_ble_eq_true rfl) dX10_statue_152 ?_
                    refine x_if_eq (tgt := 162) C dX10_statue_155 (by decide) (fun c18 => ?_) (fun c18 => ?_)
                    · have hf := pf_t c18 hf
                      refine x_iconst (0 : Int32) C dX10_statue_162 (by decide) ?_
                      obtain ⟨rfl, rfl⟩ := Prod.mk.inj (Option.some.inj hf)
                      exact m_iret C hr hQ dX10_statue_163
                    · have hf := pf_f c18 hf
                      refine x_iconst (1 : Int32) C dX10_statue_158 (by decide) ?_
                      refine x_goto (tgt := 163) C dX10_statue_159 (by decide) ?_
                      obtain ⟨rfl, rfl⟩ := Prod.mk.inj (Option.some.inj hf)
                      exact m_iret C hr hQ dX10_statue_163
                  · have hf := pf_f c10 hf
                    refine x_tableOut (tgt := 164) C dX10_statue_19 (by have := lv_neT c3 (show (0 : Int32).toInt = (0 : Int) by decide); have := lv_neT c4 (show (1 : Int32).toInt = (1 : Int) by decide); have := lv_neT c5 (show (2 : Int32).toInt = (2 : Int) by decide); have := lv_neT c6 (show (3 : Int32).toInt = (3 : Int) by decide); have := lv_neT c7 (show (4 : Int32).toInt = (4 : Int) by decide); have := lv_neT c8 (show (5 : Int32).toInt = (5 : Int) by decide); have := lv_neT c9 (show (6 : Int32).toInt = (6 : Int) by decide); have := lv_neT c10 (show (7 : Int32).toInt = (7 : Int) by decide); omega) (by decide) ?_
                    refine x_aload_n C dX10_statue_164 0 rfl ?_
                    obtain ⟨r19, er19, hf⟩ := pf_e hf
                    refine mc_refuse C B dK (Nat.le_of_ble_eq_true rfl) er19.symm (Nat.le_of_ble_eq_true rfl) dX10_statue_165 ?_
                    obtain ⟨rfl, rfl⟩ := Prod.mk.inj (Option.some.inj hf)
                    exact m_iret C hr hQ dX10_statue_168
  · have hf := pf_t c2 hf
    refine x_aload_n C dX10_statue_13 0 rfl ?_
    obtain ⟨r20, er20, hf⟩ := pf_e hf
    refine mc_refuse C B dK (Nat.le_of_ble_eq_true rfl) er20.symm (Nat.le_of_ble_eq_true rfl) dX10_statue_14 ?_
    obtain ⟨rfl, rfl⟩ := Prod.mk.inj (Option.some.inj hf)
    exact m_iret C hr hQ dX10_statue_17
theorem met_statue {M : MT} {v : (Int32 × MS)} {σ : MS} {x1 : Int32} {x2 : Int32} {l : Launch} (hc : (mCl M)[mCi M]? = some (RX10, TX10, 61)) (hf : f_statue x1 x2 σ = some v) : Met l yX10_statue (ws_ yX10_statue cX10_statue 3 (some .int)) (rmD 3) (va_Pc [.ref (mO M), .int x1, .int x2] (MU M σ)) (Qm M (some (.int v.1)) v.2) 0 0 (mAd M) :=
  m_met [.ref (mO M), .int x1, .int x2] (by decide) rfl (Nat.le_of_ble_eq_true rfl) hc (fun K hl hR hr C B hQ => w_statue_E C B hr hR hQ _ _ _ hf)
def f_isWalker (σ : MS) (x1 : Int32) : Int32 := f_isIn x1 (0 : Int32) ((ga σ 14 4) - (1 : Int32))
set_option maxHeartbeats 4000000 in
theorem w_isWalker_E {K : KT} {M : MT} {r : Int32} (σ : MS) (C : Kok K cX10_isWalker 2 RX10) (B : MB K M) (hr : (kMe K).sig.returnType = some .boolean) (dK : kR K = rmD 2) (hQ : KQm K M (some (.int r)) σ) (x1 : Int32) (hf : f_isWalker σ x1 = r) : XJ K 2 (Wm K M σ) 0 [(0, .ref (mO M)), (1, .int x1)] [] := by
  unfold f_isWalker at hf
  refine x_iload_n C dX10_isWalker_0 1 rfl ?_
  refine x_iconst (0 : Int32) C dX10_isWalker_1 (by decide) ?_
  refine x_aload_n C dX10_isWalker_2 0 rfl ?_
  refine mg_14 C B dX10_isWalker_3 ?_
  refine x_iconst (4 : Int32) C dX10_isWalker_6 (by decide) ?_
  refine mlc_14 4 C B (by decide +kernel) dX10_isWalker_7 ?_
  refine x_iconst (1 : Int32) C dX10_isWalker_8 (by decide) ?_
  refine x_isub C dX10_isWalker_9 ?_
  refine mc_isIn C B dK (Nat.le_of_ble_eq_true rfl) rfl (Nat.le_of_ble_eq_true rfl) dX10_isWalker_10 ?_
  subst hf
  exact m_zret C hr (bz_isIn_E rfl) hQ dX10_isWalker_13
theorem bz_isWalker_E {r : Int32} {σ : MS} {x1 : Int32} (hf : f_isWalker σ x1 = r) : r = 0 ∨ r = 1 := by
  unfold f_isWalker at hf
  subst hf
  exact (bz_isIn_E rfl)
theorem met_isWalker {M : MT} {v : Int32} {σ : MS} {x1 : Int32} {l : Launch} (hc : (mCl M)[mCi M]? = some (RX10, TX10, 61)) (hf : f_isWalker σ x1 = v) : Met l yX10_isWalker (ws_ yX10_isWalker cX10_isWalker 2 (some .boolean)) (rmD 2) (va_Pc [.ref (mO M), .int x1] (MU M σ)) (Qm M (some (.int v)) σ) 0 0 (mAd M) :=
  m_met [.ref (mO M), .int x1] (by decide) rfl (Nat.le_of_ble_eq_true rfl) hc (fun K hl hR hr C B hQ => w_isWalker_E _ C B hr hR hQ _ hf)
theorem mc_isWalker {K : KT} {M : MT} {cc : ByteArray} {nL pc dk : Nat} {L : List (Nat × Value)} {rest : List Value} {σ : MS} {v : Int32} {x1 : Int32} (C : Kok K cc nL RX10) (B : MB K M) (dK : kR K = rmD dk) (hd : 2 + 1 ≤ dk) (hf : f_isWalker σ x1 = v) (hW : (rest.map fun v => v.category).sum ≤ 8) (dd : decode cc pc = .ok (.invokevirtual 285, 3)) (kk2 : XJ K nL (Wm K M σ) (pc + 3) L ((.int v) :: rest)) : XJ K nL (Wm K M σ) pc L (.int x1 :: .ref (mO M) :: rest) :=
  m_callV (rest := rest) (v := (some (.int v))) [.int x1] 1 rfl C B dK hd (Nat.le_of_ble_eq_true rfl) (lw_V q2144 q2146 qs71 q133 q2147) (by decide +kernel) (met_isWalker B.2 hf) rfl hW dd kk2
def f_walker_126 (n : Nat) : Nat → Int32 → Int32 → Int32 → MS → Option (Int32 × MS)
  | 0, _, _, _, _ => none
  | m + 1, x1, x3, x4, σ => if (ga σ 14 2) ≤ x4 then (some (x3, σ)) else (if inb (((250 : Int32) + ((5 : Int32) * x1)) + x4) 532 = true then if (ga σ 14 (Int32.toNatClampNeg (((250 : Int32) + ((5 : Int32) * x1)) + x4))) ≤ 0 then (f_walker_126 n m x1 x3 (x4 + (1 : Int32)) σ) else (ev (x3 ||| ((1 : Int32) <<< (x4 &&& 31))) fun v4 => f_walker_126 n m x1 v4 (x4 + (1 : Int32)) σ) else none)
set_option maxHeartbeats 4000000 in
theorem w_walker_126 {K : KT} {M : MT} {r : Int32} {τ : MS} (n : Nat) (C : Kok K cX10_walker 5 RX10) (B : MB K M) (hr : (kMe K).sig.returnType = some .int) (dK : kR K = rmD 3) (hQ : KQm K M (some (.int r)) τ) : ∀ (m : Nat) (x1 : Int32) (x3 : Int32) (x4 : Int32) (σ : MS) (hf : f_walker_126 n m x1 x3 x4 σ = some (r, τ)), XJ K 5 (Wm K M σ) 126 [(0, .ref (mO M)), (1, .int x1), (3, .int x3), (4, .int x4)] [] := by
  intro m
  induction m with
  | zero => intro x1 x3 x4 σ hf; cases hf
  | succ m ih =>
    intro x1 x3 x4 σ hf
    rw [f_walker_126] at hf
    refine x_iload C dX10_walker_126 3 rfl ?_
    refine x_aload_n C dX10_walker_128 0 rfl ?_
    refine mg_14 C B dX10_walker_129 ?_
    refine x_iconst (2 : Int32) C dX10_walker_132 (by decide) ?_
    refine mlc_14 2 C B (by decide +kernel) dX10_walker_133 ?_
    refine x_icmp_ge (tgt := 168) C dX10_walker_134 (by decide) (fun c1 => ?_) (fun c1 => ?_)
    · have hf := pf_t c1 hf
      refine x_iload_n C dX10_walker_168 2 rfl ?_
      obtain ⟨rfl, rfl⟩ := Prod.mk.inj (Option.some.inj hf)
      exact m_iret C hr hQ dX10_walker_169
    · have hf := pf_f c1 hf
      refine x_aload_n C dX10_walker_137 0 rfl ?_
      refine mg_14 C B dX10_walker_138 ?_
      refine x_sipush (250 : Int32) C dX10_walker_141 (by decide) ?_
      refine x_iconst (5 : Int32) C dX10_walker_144 (by decide) ?_
      refine x_iload_n C dX10_walker_145 1 rfl ?_
      refine x_imul C dX10_walker_146 ?_
      refine x_iadd C dX10_walker_147 ?_
      refine x_iload C dX10_walker_148 3 rfl ?_
      refine x_iadd C dX10_walker_150 ?_
      obtain ⟨h2, hf⟩ := pf_in hf
      refine ml_14 C B h2 dX10_walker_151 ?_
      refine x_if_le (tgt := 162) C dX10_walker_152 (by decide) (fun c3 => ?_) (fun c3 => ?_)
      · have hf := pf_t c3 hf
        refine x_inc (c := (1 : Int32)) (L' := [(0, .ref (mO M)), (1, .int x1), (3, .int x3), (4, .int (x4 + (1 : Int32)))]) C dX10_walker_162 3 rfl (by decide) (Nat.le_of_ble_eq_true rfl) [1, 2, 3, 0] rfl ?_
        refine x_goto (tgt := 126) C dX10_walker_165 (by decide) ?_
        exact ih x1 x3 (x4 + (1 : Int32)) _ hf
      · have hf := pf_f c3 hf
        refine x_iload_n C dX10_walker_155 2 rfl ?_
        refine x_iconst (1 : Int32) C dX10_walker_156 (by decide) ?_
        refine x_iload C dX10_walker_157 3 rfl ?_
        refine x_ishl C dX10_walker_159 ?_
        refine x_ior C dX10_walker_160 ?_
        obtain ⟨v4, ev4, hf⟩ := pf_e hf
        refine x_topir ev4 ?_
        refine x_istore_n (L' := [(0, .ref (mO M)), (1, .int x1), (3, .int v4), (4, .int x4)]) C dX10_walker_161 (Nat.le_of_ble_eq_true rfl) [1, 2, 0, 3] rfl ?_
        refine x_inc (c := (1 : Int32)) (L' := [(0, .ref (mO M)), (1, .int x1), (3, .int v4), (4, .int (x4 + (1 : Int32)))]) C dX10_walker_162 3 rfl (by decide) (Nat.le_of_ble_eq_true rfl) [1, 2, 3, 0] rfl ?_
        refine x_goto (tgt := 126) C dX10_walker_165 (by decide) ?_
        exact ih x1 v4 (x4 + (1 : Int32)) _ hf
def f_walker (n : Nat) (x1 : Int32) (x2 : Int32) (σ : MS) : Option (Int32 × MS) := ev (si σ 0 (0 : Int32)) fun s1 => if (f_isWalker s1 x1) = 0 then (ev (f_refuse s1) fun r17 => some (r17.1, r17.2)) else (if x2 = (0 : Int32) then (if inb ((54 : Int32) + x1) 532 = true then some (ga s1 14 (Int32.toNatClampNeg ((54 : Int32) + x1)), s1) else none) else (if x2 = (1 : Int32) then (if inb ((62 : Int32) + x1) 532 = true then some (ga s1 14 (Int32.toNatClampNeg ((62 : Int32) + x1)), s1) else none) else (if x2 = (2 : Int32) then (if inb ((70 : Int32) + x1) 532 = true then some (ga s1 14 (Int32.toNatClampNeg ((70 : Int32) + x1)), s1) else none) else (if x2 = (3 : Int32) then (if inb ((78 : Int32) + x1) 532 = true then some (ga s1 14 (Int32.toNatClampNeg ((78 : Int32) + x1)), s1) else none) else (if x2 = (4 : Int32) then (if inb ((126 : Int32) + x1) 532 = true then some (ga s1 14 (Int32.toNatClampNeg ((126 : Int32) + x1)), s1) else none) else (if x2 = (5 : Int32) then (if inb ((242 : Int32) + x1) 532 = true then some (ga s1 14 (Int32.toNatClampNeg ((242 : Int32) + x1)), s1) else none) else (if x2 = (6 : Int32) then (f_walker_126 n n x1 (0 : Int32) (0 : Int32) s1) else (ev (f_refuse s1) fun r16 => some (r16.1, r16.2)))))))))
set_option maxHeartbeats 4000000 in
theorem w_walker_E {K : KT} {M : MT} {r : Int32} {τ : MS} (n : Nat) (C : Kok K cX10_walker 5 RX10) (B : MB K M) (hr : (kMe K).sig.returnType = some .int) (dK : kR K = rmD 3) (hQ : KQm K M (some (.int r)) τ) (x1 : Int32) (x2 : Int32) (σ : MS) (hf : f_walker n x1 x2 σ = some (r, τ)) : XJ K 5 (Wm K M σ) 0 [(0, .ref (mO M)), (1, .int x1), (2, .int x2)] [] := by
  unfold f_walker at hf
  refine x_aload_n C dX10_walker_0 0 rfl ?_
  refine x_iconst (0 : Int32) C dX10_walker_1 (by decide) ?_
  refine mp_0 C B dX10_walker_2 ?_
  obtain ⟨s1, es1, hf⟩ := pf_e hf
  refine m_ren es1 ?_
  refine x_aload_n C dX10_walker_5 0 rfl ?_
  refine x_iload_n C dX10_walker_6 1 rfl ?_
  refine mc_isWalker C B dK (Nat.le_of_ble_eq_true rfl) rfl (Nat.le_of_ble_eq_true rfl) dX10_walker_7 ?_
  refine x_if_ne (tgt := 18) C dX10_walker_10 (by decide) (fun c2 => ?_) (fun c2 => ?_)
  · have hf := pf_f c2 hf
    refine x_iload_n C dX10_walker_18 2 rfl ?_
    by_cases c3 : x2 = (0 : Int32)
    · have hf := pf_t c3 hf
      refine x_tableIn (off := 41) (tgt := 60) C dX10_walker_19 (by rw [c3]; decide) (by rw [c3]; decide) (by rw [c3]; decide) (by decide) ?_
      refine x_aload_n C dX10_walker_60 0 rfl ?_
      refine mg_14 C B dX10_walker_61 ?_
      refine x_bipush (54 : Int32) C dX10_walker_64 (by decide) ?_
      refine x_iload_n C dX10_walker_66 1 rfl ?_
      refine x_iadd C dX10_walker_67 ?_
      obtain ⟨h10, hf⟩ := pf_in hf
      refine ml_14 C B h10 dX10_walker_68 ?_
      obtain ⟨rfl, rfl⟩ := Prod.mk.inj (Option.some.inj hf)
      exact m_iret C hr hQ dX10_walker_69
    · have hf := pf_f c3 hf
      by_cases c4 : x2 = (1 : Int32)
      · have hf := pf_t c4 hf
        refine x_tableIn (off := 51) (tgt := 70) C dX10_walker_19 (by rw [c4]; decide) (by rw [c4]; decide) (by rw [c4]; decide) (by decide) ?_
        refine x_aload_n C dX10_walker_70 0 rfl ?_
        refine mg_14 C B dX10_walker_71 ?_
        refine x_bipush (62 : Int32) C dX10_walker_74 (by decide) ?_
        refine x_iload_n C dX10_walker_76 1 rfl ?_
        refine x_iadd C dX10_walker_77 ?_
        obtain ⟨h11, hf⟩ := pf_in hf
        refine ml_14 C B h11 dX10_walker_78 ?_
        obtain ⟨rfl, rfl⟩ := Prod.mk.inj (Option.some.inj hf)
        exact m_iret C hr hQ dX10_walker_79
      · have hf := pf_f c4 hf
        by_cases c5 : x2 = (2 : Int32)
        · have hf := pf_t c5 hf
          refine x_tableIn (off := 61) (tgt := 80) C dX10_walker_19 (by rw [c5]; decide) (by rw [c5]; decide) (by rw [c5]; decide) (by decide) ?_
          refine x_aload_n C dX10_walker_80 0 rfl ?_
          refine mg_14 C B dX10_walker_81 ?_
          refine x_bipush (70 : Int32) C dX10_walker_84 (by decide) ?_
          refine x_iload_n C dX10_walker_86 1 rfl ?_
          refine x_iadd C dX10_walker_87 ?_
          obtain ⟨h12, hf⟩ := pf_in hf
          refine ml_14 C B h12 dX10_walker_88 ?_
          obtain ⟨rfl, rfl⟩ := Prod.mk.inj (Option.some.inj hf)
          exact m_iret C hr hQ dX10_walker_89
        · have hf := pf_f c5 hf
          by_cases c6 : x2 = (3 : Int32)
          · have hf := pf_t c6 hf
            refine x_tableIn (off := 71) (tgt := 90) C dX10_walker_19 (by rw [c6]; decide) (by rw [c6]; decide) (by rw [c6]; decide) (by decide) ?_
            refine x_aload_n C dX10_walker_90 0 rfl ?_
            refine mg_14 C B dX10_walker_91 ?_
            refine x_bipush (78 : Int32) C dX10_walker_94 (by decide) ?_
            refine x_iload_n C dX10_walker_96 1 rfl ?_
            refine x_iadd C dX10_walker_97 ?_
            obtain ⟨h13, hf⟩ := pf_in hf
            refine ml_14 C B h13 dX10_walker_98 ?_
            obtain ⟨rfl, rfl⟩ := Prod.mk.inj (Option.some.inj hf)
            exact m_iret C hr hQ dX10_walker_99
          · have hf := pf_f c6 hf
            by_cases c7 : x2 = (4 : Int32)
            · have hf := pf_t c7 hf
              refine x_tableIn (off := 81) (tgt := 100) C dX10_walker_19 (by rw [c7]; decide) (by rw [c7]; decide) (by rw [c7]; decide) (by decide) ?_
              refine x_aload_n C dX10_walker_100 0 rfl ?_
              refine mg_14 C B dX10_walker_101 ?_
              refine x_bipush (126 : Int32) C dX10_walker_104 (by decide) ?_
              refine x_iload_n C dX10_walker_106 1 rfl ?_
              refine x_iadd C dX10_walker_107 ?_
              obtain ⟨h14, hf⟩ := pf_in hf
              refine ml_14 C B h14 dX10_walker_108 ?_
              obtain ⟨rfl, rfl⟩ := Prod.mk.inj (Option.some.inj hf)
              exact m_iret C hr hQ dX10_walker_109
            · have hf := pf_f c7 hf
              by_cases c8 : x2 = (5 : Int32)
              · have hf := pf_t c8 hf
                refine x_tableIn (off := 91) (tgt := 110) C dX10_walker_19 (by rw [c8]; decide) (by rw [c8]; decide) (by rw [c8]; decide) (by decide) ?_
                refine x_aload_n C dX10_walker_110 0 rfl ?_
                refine mg_14 C B dX10_walker_111 ?_
                refine x_sipush (242 : Int32) C dX10_walker_114 (by decide) ?_
                refine x_iload_n C dX10_walker_117 1 rfl ?_
                refine x_iadd C dX10_walker_118 ?_
                obtain ⟨h15, hf⟩ := pf_in hf
                refine ml_14 C B h15 dX10_walker_119 ?_
                obtain ⟨rfl, rfl⟩ := Prod.mk.inj (Option.some.inj hf)
                exact m_iret C hr hQ dX10_walker_120
              · have hf := pf_f c8 hf
                by_cases c9 : x2 = (6 : Int32)
                · have hf := pf_t c9 hf
                  refine x_tableIn (off := 102) (tgt := 121) C dX10_walker_19 (by rw [c9]; decide) (by rw [c9]; decide) (by rw [c9]; decide) (by decide) ?_
                  refine x_iconst (0 : Int32) C dX10_walker_121 (by decide) ?_
                  refine x_istore_n (L' := [(0, .ref (mO M)), (1, .int x1), (3, .int (0 : Int32))]) C dX10_walker_122 (Nat.le_of_ble_eq_true rfl) [1, 2, 0] rfl ?_
                  refine x_iconst (0 : Int32) C dX10_walker_123 (by decide) ?_
                  refine x_istore (L' := [(0, .ref (mO M)), (1, .int x1), (3, .int (0 : Int32)), (4, .int (0 : Int32))]) C dX10_walker_124 (Nat.le_of_ble_eq_true rfl) [1, 2, 3, 0] rfl ?_
                  exact w_walker_126 n C B hr dK hQ n x1 (0 : Int32) (0 : Int32) _ hf
                · have hf := pf_f c9 hf
                  refine x_tableOut (tgt := 170) C dX10_walker_19 (by have := lv_neT c3 (show (0 : Int32).toInt = (0 : Int) by decide); have := lv_neT c4 (show (1 : Int32).toInt = (1 : Int) by decide); have := lv_neT c5 (show (2 : Int32).toInt = (2 : Int) by decide); have := lv_neT c6 (show (3 : Int32).toInt = (3 : Int) by decide); have := lv_neT c7 (show (4 : Int32).toInt = (4 : Int) by decide); have := lv_neT c8 (show (5 : Int32).toInt = (5 : Int) by decide); have := lv_neT c9 (show (6 : Int32).toInt = (6 : Int) by decide); omega) (by decide) ?_
                  refine x_aload_n C dX10_walker_170 0 rfl ?_
                  obtain ⟨r16, er16, hf⟩ := pf_e hf
                  refine mc_refuse C B dK (Nat.le_of_ble_eq_true rfl) er16.symm (Nat.le_of_ble_eq_true rfl) dX10_walker_171 ?_
                  obtain ⟨rfl, rfl⟩ := Prod.mk.inj (Option.some.inj hf)
                  exact m_iret C hr hQ dX10_walker_174
  · have hf := pf_t c2 hf
    refine x_aload_n C dX10_walker_13 0 rfl ?_
    obtain ⟨r17, er17, hf⟩ := pf_e hf
    refine mc_refuse C B dK (Nat.le_of_ble_eq_true rfl) er17.symm (Nat.le_of_ble_eq_true rfl) dX10_walker_14 ?_
    obtain ⟨rfl, rfl⟩ := Prod.mk.inj (Option.some.inj hf)
    exact m_iret C hr hQ dX10_walker_17
theorem met_walker {M : MT} {v : (Int32 × MS)} {n : Nat} {σ : MS} {x1 : Int32} {x2 : Int32} {l : Launch} (hc : (mCl M)[mCi M]? = some (RX10, TX10, 61)) (hf : f_walker n x1 x2 σ = some v) : Met l yX10_walker (ws_ yX10_walker cX10_walker 5 (some .int)) (rmD 3) (va_Pc [.ref (mO M), .int x1, .int x2] (MU M σ)) (Qm M (some (.int v.1)) v.2) 0 0 (mAd M) :=
  m_met [.ref (mO M), .int x1, .int x2] (by decide) rfl (Nat.le_of_ble_eq_true rfl) hc (fun K hl hR hr C B hQ => w_walker_E _ C B hr hR hQ _ _ _ hf)
def f_way (x1 : Int32) (x2 : Int32) (σ : MS) : Option (Int32 × MS) := ev (si σ 0 (0 : Int32)) fun s1 => if (f_isWalker s1 x1) = 0 then (some ((-1 : Int32), s1)) else (if inb ((126 : Int32) + x1) 532 = true then if (f_isIn x2 (0 : Int32) ((ga s1 14 (Int32.toNatClampNeg ((126 : Int32) + x1))) - (1 : Int32))) = 0 then (some ((-1 : Int32), s1)) else (if inb (((134 : Int32) + ((8 : Int32) * x1)) + x2) 532 = true then some (ga s1 14 (Int32.toNatClampNeg (((134 : Int32) + ((8 : Int32) * x1)) + x2)), s1) else none) else none)
set_option maxHeartbeats 4000000 in
theorem w_way_E {K : KT} {M : MT} {r : Int32} {τ : MS} (C : Kok K cX10_way 3 RX10) (B : MB K M) (hr : (kMe K).sig.returnType = some .int) (dK : kR K = rmD 3) (hQ : KQm K M (some (.int r)) τ) (x1 : Int32) (x2 : Int32) (σ : MS) (hf : f_way x1 x2 σ = some (r, τ)) : XJ K 3 (Wm K M σ) 0 [(0, .ref (mO M)), (1, .int x1), (2, .int x2)] [] := by
  unfold f_way at hf
  refine x_aload_n C dX10_way_0 0 rfl ?_
  refine x_iconst (0 : Int32) C dX10_way_1 (by decide) ?_
  refine mp_0 C B dX10_way_2 ?_
  obtain ⟨s1, es1, hf⟩ := pf_e hf
  refine m_ren es1 ?_
  refine x_aload_n C dX10_way_5 0 rfl ?_
  refine x_iload_n C dX10_way_6 1 rfl ?_
  refine mc_isWalker C B dK (Nat.le_of_ble_eq_true rfl) rfl (Nat.le_of_ble_eq_true rfl) dX10_way_7 ?_
  refine x_if_eq (tgt := 50) C dX10_way_10 (by decide) (fun c2 => ?_) (fun c2 => ?_)
  · have hf := pf_t c2 hf
    refine x_iconst (-1 : Int32) C dX10_way_50 (by decide) ?_
    obtain ⟨rfl, rfl⟩ := Prod.mk.inj (Option.some.inj hf)
    exact m_iret C hr hQ dX10_way_51
  · have hf := pf_f c2 hf
    refine x_iload_n C dX10_way_13 2 rfl ?_
    refine x_iconst (0 : Int32) C dX10_way_14 (by decide) ?_
    refine x_aload_n C dX10_way_15 0 rfl ?_
    refine mg_14 C B dX10_way_16 ?_
    refine x_bipush (126 : Int32) C dX10_way_19 (by decide) ?_
    refine x_iload_n C dX10_way_21 1 rfl ?_
    refine x_iadd C dX10_way_22 ?_
    obtain ⟨h3, hf⟩ := pf_in hf
    refine ml_14 C B h3 dX10_way_23 ?_
    refine x_iconst (1 : Int32) C dX10_way_24 (by decide) ?_
    refine x_isub C dX10_way_25 ?_
    refine mc_isIn C B dK (Nat.le_of_ble_eq_true rfl) rfl (Nat.le_of_ble_eq_true rfl) dX10_way_26 ?_
    refine x_if_eq (tgt := 50) C dX10_way_29 (by decide) (fun c4 => ?_) (fun c4 => ?_)
    · have hf := pf_t c4 hf
      refine x_iconst (-1 : Int32) C dX10_way_50 (by decide) ?_
      obtain ⟨rfl, rfl⟩ := Prod.mk.inj (Option.some.inj hf)
      exact m_iret C hr hQ dX10_way_51
    · have hf := pf_f c4 hf
      refine x_aload_n C dX10_way_32 0 rfl ?_
      refine mg_14 C B dX10_way_33 ?_
      refine x_sipush (134 : Int32) C dX10_way_36 (by decide) ?_
      refine x_bipush (8 : Int32) C dX10_way_39 (by decide) ?_
      refine x_iload_n C dX10_way_41 1 rfl ?_
      refine x_imul C dX10_way_42 ?_
      refine x_iadd C dX10_way_43 ?_
      refine x_iload_n C dX10_way_44 2 rfl ?_
      refine x_iadd C dX10_way_45 ?_
      obtain ⟨h5, hf⟩ := pf_in hf
      refine ml_14 C B h5 dX10_way_46 ?_
      refine x_goto (tgt := 51) C dX10_way_47 (by decide) ?_
      obtain ⟨rfl, rfl⟩ := Prod.mk.inj (Option.some.inj hf)
      exact m_iret C hr hQ dX10_way_51
theorem met_way {M : MT} {v : (Int32 × MS)} {σ : MS} {x1 : Int32} {x2 : Int32} {l : Launch} (hc : (mCl M)[mCi M]? = some (RX10, TX10, 61)) (hf : f_way x1 x2 σ = some v) : Met l yX10_way (ws_ yX10_way cX10_way 3 (some .int)) (rmD 3) (va_Pc [.ref (mO M), .int x1, .int x2] (MU M σ)) (Qm M (some (.int v.1)) v.2) 0 0 (mAd M) :=
  m_met [.ref (mO M), .int x1, .int x2] (by decide) rfl (Nat.le_of_ble_eq_true rfl) hc (fun K hl hR hr C B hQ => w_way_E C B hr hR hQ _ _ _ hf)
def f_chance (σ : MS) (x1 : Int32) (x2 : Int32) : Option Int32 := if inb (((86 : Int32) + ((5 : Int32) * x1)) + x2) 532 = true then if inb (((250 : Int32) + ((5 : Int32) * x1)) + x2) 532 = true then some ((ga σ 14 (Int32.toNatClampNeg (((86 : Int32) + ((5 : Int32) * x1)) + x2))) >>> ((ga σ 14 (Int32.toNatClampNeg (((250 : Int32) + ((5 : Int32) * x1)) + x2))) &&& 31)) else none else none
set_option maxHeartbeats 4000000 in
theorem w_chance_E {K : KT} {M : MT} {r : Int32} (σ : MS) (C : Kok K cX10_chance 3 RX10) (B : MB K M) (hr : (kMe K).sig.returnType = some .int) (dK : kR K = rmD 1) (hQ : KQm K M (some (.int r)) σ) (x1 : Int32) (x2 : Int32) (hf : f_chance σ x1 x2 = some r) : XJ K 3 (Wm K M σ) 0 [(0, .ref (mO M)), (1, .int x1), (2, .int x2)] [] := by
  unfold f_chance at hf
  refine x_aload_n C dX10_chance_0 0 rfl ?_
  refine mg_14 C B dX10_chance_1 ?_
  refine x_bipush (86 : Int32) C dX10_chance_4 (by decide) ?_
  refine x_iconst (5 : Int32) C dX10_chance_6 (by decide) ?_
  refine x_iload_n C dX10_chance_7 1 rfl ?_
  refine x_imul C dX10_chance_8 ?_
  refine x_iadd C dX10_chance_9 ?_
  refine x_iload_n C dX10_chance_10 2 rfl ?_
  refine x_iadd C dX10_chance_11 ?_
  obtain ⟨h1, hf⟩ := pf_in hf
  refine ml_14 C B h1 dX10_chance_12 ?_
  refine x_aload_n C dX10_chance_13 0 rfl ?_
  refine mg_14 C B dX10_chance_14 ?_
  refine x_sipush (250 : Int32) C dX10_chance_17 (by decide) ?_
  refine x_iconst (5 : Int32) C dX10_chance_20 (by decide) ?_
  refine x_iload_n C dX10_chance_21 1 rfl ?_
  refine x_imul C dX10_chance_22 ?_
  refine x_iadd C dX10_chance_23 ?_
  refine x_iload_n C dX10_chance_24 2 rfl ?_
  refine x_iadd C dX10_chance_25 ?_
  obtain ⟨h2, hf⟩ := pf_in hf
  refine ml_14 C B h2 dX10_chance_26 ?_
  refine x_ishr C dX10_chance_27 ?_
  obtain rfl := Option.some.inj hf
  exact m_iret C hr hQ dX10_chance_28
theorem met_chance {M : MT} {v : Int32} {σ : MS} {x1 : Int32} {x2 : Int32} {l : Launch} (hc : (mCl M)[mCi M]? = some (RX10, TX10, 61)) (hf : f_chance σ x1 x2 = some v) : Met l yX10_chance (ws_ yX10_chance cX10_chance 3 (some .int)) (rmD 1) (va_Pc [.ref (mO M), .int x1, .int x2] (MU M σ)) (Qm M (some (.int v)) σ) 0 0 (mAd M) :=
  m_met [.ref (mO M), .int x1, .int x2] (by decide) rfl (Nat.le_of_ble_eq_true rfl) hc (fun K hl hR hr C B hQ => w_chance_E _ C B hr hR hQ _ _ hf)
theorem mc_chance {K : KT} {M : MT} {cc : ByteArray} {nL pc dk : Nat} {L : List (Nat × Value)} {rest : List Value} {σ : MS} {v : Int32} {x1 : Int32} {x2 : Int32} (C : Kok K cc nL RX10) (B : MB K M) (dK : kR K = rmD dk) (hd : 1 + 1 ≤ dk) (hf : f_chance σ x1 x2 = some v) (hW : (rest.map fun v => v.category).sum ≤ 8) (dd : decode cc pc = .ok (.invokevirtual 291, 3)) (kk2 : XJ K nL (Wm K M σ) (pc + 3) L ((.int v) :: rest)) : XJ K nL (Wm K M σ) pc L (.int x2 :: .int x1 :: .ref (mO M) :: rest) :=
  m_callV (rest := rest) (v := (some (.int v))) [.int x1, .int x2] 2 rfl C B dK hd (Nat.le_of_ble_eq_true rfl) (lw_V q2160 q2162 qs73 q133 q2163) (by decide +kernel) (met_chance B.2 hf) rfl hW dd kk2
def f_isKind (σ : MS) (x1 : Int32) : Int32 := f_isIn x1 (0 : Int32) ((ga σ 14 2) - (1 : Int32))
set_option maxHeartbeats 4000000 in
theorem w_isKind_E {K : KT} {M : MT} {r : Int32} (σ : MS) (C : Kok K cX10_isKind 2 RX10) (B : MB K M) (hr : (kMe K).sig.returnType = some .boolean) (dK : kR K = rmD 2) (hQ : KQm K M (some (.int r)) σ) (x1 : Int32) (hf : f_isKind σ x1 = r) : XJ K 2 (Wm K M σ) 0 [(0, .ref (mO M)), (1, .int x1)] [] := by
  unfold f_isKind at hf
  refine x_iload_n C dX10_isKind_0 1 rfl ?_
  refine x_iconst (0 : Int32) C dX10_isKind_1 (by decide) ?_
  refine x_aload_n C dX10_isKind_2 0 rfl ?_
  refine mg_14 C B dX10_isKind_3 ?_
  refine x_iconst (2 : Int32) C dX10_isKind_6 (by decide) ?_
  refine mlc_14 2 C B (by decide +kernel) dX10_isKind_7 ?_
  refine x_iconst (1 : Int32) C dX10_isKind_8 (by decide) ?_
  refine x_isub C dX10_isKind_9 ?_
  refine mc_isIn C B dK (Nat.le_of_ble_eq_true rfl) rfl (Nat.le_of_ble_eq_true rfl) dX10_isKind_10 ?_
  subst hf
  exact m_zret C hr (bz_isIn_E rfl) hQ dX10_isKind_13
theorem bz_isKind_E {r : Int32} {σ : MS} {x1 : Int32} (hf : f_isKind σ x1 = r) : r = 0 ∨ r = 1 := by
  unfold f_isKind at hf
  subst hf
  exact (bz_isIn_E rfl)
theorem met_isKind {M : MT} {v : Int32} {σ : MS} {x1 : Int32} {l : Launch} (hc : (mCl M)[mCi M]? = some (RX10, TX10, 61)) (hf : f_isKind σ x1 = v) : Met l yX10_isKind (ws_ yX10_isKind cX10_isKind 2 (some .boolean)) (rmD 2) (va_Pc [.ref (mO M), .int x1] (MU M σ)) (Qm M (some (.int v)) σ) 0 0 (mAd M) :=
  m_met [.ref (mO M), .int x1] (by decide) rfl (Nat.le_of_ble_eq_true rfl) hc (fun K hl hR hr C B hQ => w_isKind_E _ C B hr hR hQ _ hf)
theorem mc_isKind {K : KT} {M : MT} {cc : ByteArray} {nL pc dk : Nat} {L : List (Nat × Value)} {rest : List Value} {σ : MS} {v : Int32} {x1 : Int32} (C : Kok K cc nL RX10) (B : MB K M) (dK : kR K = rmD dk) (hd : 2 + 1 ≤ dk) (hf : f_isKind σ x1 = v) (hW : (rest.map fun v => v.category).sum ≤ 8) (dd : decode cc pc = .ok (.invokevirtual 288, 3)) (kk2 : XJ K nL (Wm K M σ) (pc + 3) L ((.int v) :: rest)) : XJ K nL (Wm K M σ) pc L (.int x1 :: .ref (mO M) :: rest) :=
  m_callV (rest := rest) (v := (some (.int v))) [.int x1] 1 rfl C B dK hd (Nat.le_of_ble_eq_true rfl) (lw_V q2156 q2158 qs72 q133 q2159) (by decide +kernel) (met_isKind B.2 hf) rfl hW dd kk2
def f_likes (x1 : Int32) (x2 : Int32) (x3 : Int32) (σ : MS) : Option (Int32 × MS) := ev (si σ 0 (0 : Int32)) fun s1 => if (f_isWalker s1 x1) = 0 then (some ((-1 : Int32), s1)) else (if (f_isKind s1 x2) = 0 then (some ((-1 : Int32), s1)) else (if (f_isIn x3 (0 : Int32) (2 : Int32)) = 0 then (some ((-1 : Int32), s1)) else (if x3 = 0 then (if inb (((86 : Int32) + ((5 : Int32) * x1)) + x2) 532 = true then some (ga s1 14 (Int32.toNatClampNeg (((86 : Int32) + ((5 : Int32) * x1)) + x2)), s1) else none) else (if x3 = (1 : Int32) then (if inb (((250 : Int32) + ((5 : Int32) * x1)) + x2) 532 = true then some (ga s1 14 (Int32.toNatClampNeg (((250 : Int32) + ((5 : Int32) * x1)) + x2)), s1) else none) else ((f_chance s1 x1 x2).bind fun r7 => some (r7, s1))))))
set_option maxHeartbeats 4000000 in
theorem w_likes_E {K : KT} {M : MT} {r : Int32} {τ : MS} (C : Kok K cX10_likes 4 RX10) (B : MB K M) (hr : (kMe K).sig.returnType = some .int) (dK : kR K = rmD 3) (hQ : KQm K M (some (.int r)) τ) (x1 : Int32) (x2 : Int32) (x3 : Int32) (σ : MS) (hf : f_likes x1 x2 x3 σ = some (r, τ)) : XJ K 4 (Wm K M σ) 0 [(0, .ref (mO M)), (1, .int x1), (2, .int x2), (3, .int x3)] [] := by
  unfold f_likes at hf
  refine x_aload_n C dX10_likes_0 0 rfl ?_
  refine x_iconst (0 : Int32) C dX10_likes_1 (by decide) ?_
  refine mp_0 C B dX10_likes_2 ?_
  obtain ⟨s1, es1, hf⟩ := pf_e hf
  refine m_ren es1 ?_
  refine x_aload_n C dX10_likes_5 0 rfl ?_
  refine x_iload_n C dX10_likes_6 1 rfl ?_
  refine mc_isWalker C B dK (Nat.le_of_ble_eq_true rfl) rfl (Nat.le_of_ble_eq_true rfl) dX10_likes_7 ?_
  refine x_if_eq (tgt := 30) C dX10_likes_10 (by decide) (fun c2 => ?_) (fun c2 => ?_)
  · have hf := pf_t c2 hf
    refine x_iconst (-1 : Int32) C dX10_likes_30 (by decide) ?_
    obtain ⟨rfl, rfl⟩ := Prod.mk.inj (Option.some.inj hf)
    exact m_iret C hr hQ dX10_likes_31
  · have hf := pf_f c2 hf
    refine x_aload_n C dX10_likes_13 0 rfl ?_
    refine x_iload_n C dX10_likes_14 2 rfl ?_
    refine mc_isKind C B dK (Nat.le_of_ble_eq_true rfl) rfl (Nat.le_of_ble_eq_true rfl) dX10_likes_15 ?_
    refine x_if_eq (tgt := 30) C dX10_likes_18 (by decide) (fun c3 => ?_) (fun c3 => ?_)
    · have hf := pf_t c3 hf
      refine x_iconst (-1 : Int32) C dX10_likes_30 (by decide) ?_
      obtain ⟨rfl, rfl⟩ := Prod.mk.inj (Option.some.inj hf)
      exact m_iret C hr hQ dX10_likes_31
    · have hf := pf_f c3 hf
      refine x_iload_n C dX10_likes_21 3 rfl ?_
      refine x_iconst (0 : Int32) C dX10_likes_22 (by decide) ?_
      refine x_iconst (2 : Int32) C dX10_likes_23 (by decide) ?_
      refine mc_isIn C B dK (Nat.le_of_ble_eq_true rfl) rfl (Nat.le_of_ble_eq_true rfl) dX10_likes_24 ?_
      refine x_if_ne (tgt := 32) C dX10_likes_27 (by decide) (fun c4 => ?_) (fun c4 => ?_)
      · have hf := pf_f c4 hf
        refine x_iload_n C dX10_likes_32 3 rfl ?_
        refine x_if_ne (tgt := 52) C dX10_likes_33 (by decide) (fun c5 => ?_) (fun c5 => ?_)
        · have hf := pf_f c5 hf
          refine x_iload_n C dX10_likes_52 3 rfl ?_
          refine x_iconst (1 : Int32) C dX10_likes_53 (by decide) ?_
          refine x_icmp_ne (tgt := 74) C dX10_likes_54 (by decide) (fun c6 => ?_) (fun c6 => ?_)
          · have hf := pf_f c6 hf
            refine x_aload_n C dX10_likes_74 0 rfl ?_
            refine x_iload_n C dX10_likes_75 1 rfl ?_
            refine x_iload_n C dX10_likes_76 2 rfl ?_
            obtain ⟨r7, er7, hf⟩ := pf_b hf
            refine mc_chance C B dK (Nat.le_of_ble_eq_true rfl) er7 (Nat.le_of_ble_eq_true rfl) dX10_likes_77 ?_
            obtain ⟨rfl, rfl⟩ := Prod.mk.inj (Option.some.inj hf)
            exact m_iret C hr hQ dX10_likes_80
          · have hf := pf_t c6 hf
            refine x_aload_n C dX10_likes_57 0 rfl ?_
            refine mg_14 C B dX10_likes_58 ?_
            refine x_sipush (250 : Int32) C dX10_likes_61 (by decide) ?_
            refine x_iconst (5 : Int32) C dX10_likes_64 (by decide) ?_
            refine x_iload_n C dX10_likes_65 1 rfl ?_
            refine x_imul C dX10_likes_66 ?_
            refine x_iadd C dX10_likes_67 ?_
            refine x_iload_n C dX10_likes_68 2 rfl ?_
            refine x_iadd C dX10_likes_69 ?_
            obtain ⟨h8, hf⟩ := pf_in hf
            refine ml_14 C B h8 dX10_likes_70 ?_
            refine x_goto (tgt := 80) C dX10_likes_71 (by decide) ?_
            obtain ⟨rfl, rfl⟩ := Prod.mk.inj (Option.some.inj hf)
            exact m_iret C hr hQ dX10_likes_80
        · have hf := pf_t c5 hf
          refine x_aload_n C dX10_likes_36 0 rfl ?_
          refine mg_14 C B dX10_likes_37 ?_
          refine x_bipush (86 : Int32) C dX10_likes_40 (by decide) ?_
          refine x_iconst (5 : Int32) C dX10_likes_42 (by decide) ?_
          refine x_iload_n C dX10_likes_43 1 rfl ?_
          refine x_imul C dX10_likes_44 ?_
          refine x_iadd C dX10_likes_45 ?_
          refine x_iload_n C dX10_likes_46 2 rfl ?_
          refine x_iadd C dX10_likes_47 ?_
          obtain ⟨h9, hf⟩ := pf_in hf
          refine ml_14 C B h9 dX10_likes_48 ?_
          refine x_goto (tgt := 80) C dX10_likes_49 (by decide) ?_
          obtain ⟨rfl, rfl⟩ := Prod.mk.inj (Option.some.inj hf)
          exact m_iret C hr hQ dX10_likes_80
      · have hf := pf_t c4 hf
        refine x_iconst (-1 : Int32) C dX10_likes_30 (by decide) ?_
        obtain ⟨rfl, rfl⟩ := Prod.mk.inj (Option.some.inj hf)
        exact m_iret C hr hQ dX10_likes_31
theorem met_likes {M : MT} {v : (Int32 × MS)} {σ : MS} {x1 : Int32} {x2 : Int32} {x3 : Int32} {l : Launch} (hc : (mCl M)[mCi M]? = some (RX10, TX10, 61)) (hf : f_likes x1 x2 x3 σ = some v) : Met l yX10_likes (ws_ yX10_likes cX10_likes 4 (some .int)) (rmD 3) (va_Pc [.ref (mO M), .int x1, .int x2, .int x3] (MU M σ)) (Qm M (some (.int v.1)) v.2) 0 0 (mAd M) :=
  m_met [.ref (mO M), .int x1, .int x2, .int x3] (by decide) rfl (Nat.le_of_ble_eq_true rfl) hc (fun K hl hR hr C B hQ => w_likes_E C B hr hR hQ _ _ _ _ hf)
def f_sum_4 (n : Nat) (σ : MS) : Nat → Int32 → Int32 → Int32 → Option Int32
  | 0, _, _, _ => none
  | m + 1, x1, x2, x3 => if (ga σ 14 3) ≤ x3 then (some x2) else (if inb (x1 + x3) 532 = true then ev (x2 + (ga σ 14 (Int32.toNatClampNeg (x1 + x3)))) fun v3 => f_sum_4 n σ m x1 v3 (x3 + (1 : Int32)) else none)
set_option maxHeartbeats 4000000 in
theorem w_sum_4 {K : KT} {M : MT} {r : Int32} (n : Nat) (σ : MS) (C : Kok K cX10_sum 4 RX10) (B : MB K M) (hr : (kMe K).sig.returnType = some .int) (dK : kR K = rmD 1) (hQ : KQm K M (some (.int r)) σ) : ∀ (m : Nat) (x1 : Int32) (x2 : Int32) (x3 : Int32) (hf : f_sum_4 n σ m x1 x2 x3 = some r), XJ K 4 (Wm K M σ) 4 [(0, .ref (mO M)), (1, .int x1), (2, .int x2), (3, .int x3)] [] := by
  intro m
  induction m with
  | zero => intro x1 x2 x3 hf; cases hf
  | succ m ih =>
    intro x1 x2 x3 hf
    rw [f_sum_4] at hf
    refine x_iload_n C dX10_sum_4 3 rfl ?_
    refine x_aload_n C dX10_sum_5 0 rfl ?_
    refine mg_14 C B dX10_sum_6 ?_
    refine x_iconst (3 : Int32) C dX10_sum_9 (by decide) ?_
    refine mlc_14 3 C B (by decide +kernel) dX10_sum_10 ?_
    refine x_icmp_ge (tgt := 31) C dX10_sum_11 (by decide) (fun c1 => ?_) (fun c1 => ?_)
    · have hf := pf_t c1 hf
      refine x_iload_n C dX10_sum_31 2 rfl ?_
      obtain rfl := Option.some.inj hf
      exact m_iret C hr hQ dX10_sum_32
    · have hf := pf_f c1 hf
      refine x_iload_n C dX10_sum_14 2 rfl ?_
      refine x_aload_n C dX10_sum_15 0 rfl ?_
      refine mg_14 C B dX10_sum_16 ?_
      refine x_iload_n C dX10_sum_19 1 rfl ?_
      refine x_iload_n C dX10_sum_20 3 rfl ?_
      refine x_iadd C dX10_sum_21 ?_
      obtain ⟨h2, hf⟩ := pf_in hf
      refine ml_14 C B h2 dX10_sum_22 ?_
      refine x_iadd C dX10_sum_23 ?_
      obtain ⟨v3, ev3, hf⟩ := pf_e hf
      refine x_topir ev3 ?_
      refine x_istore_n (L' := [(0, .ref (mO M)), (1, .int x1), (2, .int v3), (3, .int x3)]) C dX10_sum_24 (Nat.le_of_ble_eq_true rfl) [1, 2, 0, 3] rfl ?_
      refine x_inc (c := (1 : Int32)) (L' := [(0, .ref (mO M)), (1, .int x1), (2, .int v3), (3, .int (x3 + (1 : Int32)))]) C dX10_sum_25 3 rfl (by decide) (Nat.le_of_ble_eq_true rfl) [1, 2, 3, 0] rfl ?_
      refine x_goto (tgt := 4) C dX10_sum_28 (by decide) ?_
      exact ih x1 v3 (x3 + (1 : Int32)) hf
def f_sum (n : Nat) (σ : MS) (x1 : Int32) : Option Int32 := f_sum_4 n σ n x1 (0 : Int32) (0 : Int32)
set_option maxHeartbeats 4000000 in
theorem w_sum_E {K : KT} {M : MT} {r : Int32} (n : Nat) (σ : MS) (C : Kok K cX10_sum 4 RX10) (B : MB K M) (hr : (kMe K).sig.returnType = some .int) (dK : kR K = rmD 1) (hQ : KQm K M (some (.int r)) σ) (x1 : Int32) (hf : f_sum n σ x1 = some r) : XJ K 4 (Wm K M σ) 0 [(0, .ref (mO M)), (1, .int x1)] [] := by
  unfold f_sum at hf
  refine x_iconst (0 : Int32) C dX10_sum_0 (by decide) ?_
  refine x_istore_n (L' := [(0, .ref (mO M)), (1, .int x1), (2, .int (0 : Int32))]) C dX10_sum_1 (Nat.le_of_ble_eq_true rfl) [1, 2, 0] rfl ?_
  refine x_iconst (0 : Int32) C dX10_sum_2 (by decide) ?_
  refine x_istore_n (L' := [(0, .ref (mO M)), (1, .int x1), (2, .int (0 : Int32)), (3, .int (0 : Int32))]) C dX10_sum_3 (Nat.le_of_ble_eq_true rfl) [1, 2, 3, 0] rfl ?_
  exact w_sum_4 n σ C B hr dK hQ n x1 (0 : Int32) (0 : Int32) hf
theorem met_sum {M : MT} {v : Int32} {n : Nat} {σ : MS} {x1 : Int32} {l : Launch} (hc : (mCl M)[mCi M]? = some (RX10, TX10, 61)) (hf : f_sum n σ x1 = some v) : Met l yX10_sum (ws_ yX10_sum cX10_sum 4 (some .int)) (rmD 1) (va_Pc [.ref (mO M), .int x1] (MU M σ)) (Qm M (some (.int v)) σ) 0 0 (mAd M) :=
  m_met [.ref (mO M), .int x1] (by decide) rfl (Nat.le_of_ble_eq_true rfl) hc (fun K hl hR hr C B hQ => w_sum_E _ _ C B hr hR hQ _ hf)
theorem mc_sum {K : KT} {M : MT} {cc : ByteArray} {nL pc dk : Nat} {L : List (Nat × Value)} {rest : List Value} {σ : MS} {v : Int32} {n : Nat} {x1 : Int32} (C : Kok K cc nL RX10) (B : MB K M) (dK : kR K = rmD dk) (hd : 1 + 1 ≤ dk) (hf : f_sum n σ x1 = some v) (hW : (rest.map fun v => v.category).sum ≤ 8) (dd : decode cc pc = .ok (.invokevirtual 295, 3)) (kk2 : XJ K nL (Wm K M σ) (pc + 3) L ((.int v) :: rest)) : XJ K nL (Wm K M σ) pc L (.int x1 :: .ref (mO M) :: rest) :=
  m_callV (rest := rest) (v := (some (.int v))) [.int x1] 1 rfl C B dK hd (Nat.le_of_ble_eq_true rfl) (lw_V q2168 q2170 qs74 q133 q2171) (by decide +kernel) (met_sum B.2 hf) rfl hW dd kk2
def f_now (n : Nat) (x1 : Int32) (σ : MS) : Option (Int32 × MS) := ev (si σ 0 (0 : Int32)) fun s1 => if x1 = (0 : Int32) then (some (ga s1 14 198, s1)) else (if x1 = (1 : Int32) then (some (ga s1 14 201, s1)) else (if x1 = (2 : Int32) then ((f_sum n s1 (218 : Int32)).bind fun r9 => some (r9, s1)) else (if x1 = (3 : Int32) then ((f_sum n s1 (226 : Int32)).bind fun r10 => some (r10, s1)) else (if x1 = (4 : Int32) then (some (ga s1 14 199, s1)) else (if x1 = (5 : Int32) then ((f_sum n s1 (234 : Int32)).bind fun r11 => some (r11, s1)) else (if x1 = (6 : Int32) then (some (ga s1 14 200, s1)) else (some ((-1 : Int32), s1))))))))
set_option maxHeartbeats 4000000 in
theorem w_now_E {K : KT} {M : MT} {r : Int32} {τ : MS} (n : Nat) (C : Kok K cX10_now 2 RX10) (B : MB K M) (hr : (kMe K).sig.returnType = some .int) (dK : kR K = rmD 2) (hQ : KQm K M (some (.int r)) τ) (x1 : Int32) (σ : MS) (hf : f_now n x1 σ = some (r, τ)) : XJ K 2 (Wm K M σ) 0 [(0, .ref (mO M)), (1, .int x1)] [] := by
  unfold f_now at hf
  refine x_aload_n C dX10_now_0 0 rfl ?_
  refine x_iconst (0 : Int32) C dX10_now_1 (by decide) ?_
  refine mp_0 C B dX10_now_2 ?_
  obtain ⟨s1, es1, hf⟩ := pf_e hf
  refine m_ren es1 ?_
  refine x_iload_n C dX10_now_5 1 rfl ?_
  by_cases c2 : x1 = (0 : Int32)
  · have hf := pf_t c2 hf
    refine x_tableIn (off := 42) (tgt := 48) C dX10_now_6 (by rw [c2]; decide) (by rw [c2]; decide) (by rw [c2]; decide) (by decide) ?_
    refine x_aload_n C dX10_now_48 0 rfl ?_
    refine mg_14 C B dX10_now_49 ?_
    refine x_sipush (198 : Int32) C dX10_now_52 (by decide) ?_
    refine mlc_14 198 C B (by decide +kernel) dX10_now_55 ?_
    obtain ⟨rfl, rfl⟩ := Prod.mk.inj (Option.some.inj hf)
    exact m_iret C hr hQ dX10_now_56
  · have hf := pf_f c2 hf
    by_cases c3 : x1 = (1 : Int32)
    · have hf := pf_t c3 hf
      refine x_tableIn (off := 51) (tgt := 57) C dX10_now_6 (by rw [c3]; decide) (by rw [c3]; decide) (by rw [c3]; decide) (by decide) ?_
      refine x_aload_n C dX10_now_57 0 rfl ?_
      refine mg_14 C B dX10_now_58 ?_
      refine x_sipush (201 : Int32) C dX10_now_61 (by decide) ?_
      refine mlc_14 201 C B (by decide +kernel) dX10_now_64 ?_
      obtain ⟨rfl, rfl⟩ := Prod.mk.inj (Option.some.inj hf)
      exact m_iret C hr hQ dX10_now_65
    · have hf := pf_f c3 hf
      by_cases c4 : x1 = (2 : Int32)
      · have hf := pf_t c4 hf
        refine x_tableIn (off := 60) (tgt := 66) C dX10_now_6 (by rw [c4]; decide) (by rw [c4]; decide) (by rw [c4]; decide) (by decide) ?_
        refine x_aload_n C dX10_now_66 0 rfl ?_
        refine x_sipush (218 : Int32) C dX10_now_67 (by decide) ?_
        obtain ⟨r9, er9, hf⟩ := pf_b hf
        refine mc_sum C B dK (Nat.le_of_ble_eq_true rfl) er9 (Nat.le_of_ble_eq_true rfl) dX10_now_70 ?_
        obtain ⟨rfl, rfl⟩ := Prod.mk.inj (Option.some.inj hf)
        exact m_iret C hr hQ dX10_now_73
      · have hf := pf_f c4 hf
        by_cases c5 : x1 = (3 : Int32)
        · have hf := pf_t c5 hf
          refine x_tableIn (off := 68) (tgt := 74) C dX10_now_6 (by rw [c5]; decide) (by rw [c5]; decide) (by rw [c5]; decide) (by decide) ?_
          refine x_aload_n C dX10_now_74 0 rfl ?_
          refine x_sipush (226 : Int32) C dX10_now_75 (by decide) ?_
          obtain ⟨r10, er10, hf⟩ := pf_b hf
          refine mc_sum C B dK (Nat.le_of_ble_eq_true rfl) er10 (Nat.le_of_ble_eq_true rfl) dX10_now_78 ?_
          obtain ⟨rfl, rfl⟩ := Prod.mk.inj (Option.some.inj hf)
          exact m_iret C hr hQ dX10_now_81
        · have hf := pf_f c5 hf
          by_cases c6 : x1 = (4 : Int32)
          · have hf := pf_t c6 hf
            refine x_tableIn (off := 76) (tgt := 82) C dX10_now_6 (by rw [c6]; decide) (by rw [c6]; decide) (by rw [c6]; decide) (by decide) ?_
            refine x_aload_n C dX10_now_82 0 rfl ?_
            refine mg_14 C B dX10_now_83 ?_
            refine x_sipush (199 : Int32) C dX10_now_86 (by decide) ?_
            refine mlc_14 199 C B (by decide +kernel) dX10_now_89 ?_
            obtain ⟨rfl, rfl⟩ := Prod.mk.inj (Option.some.inj hf)
            exact m_iret C hr hQ dX10_now_90
          · have hf := pf_f c6 hf
            by_cases c7 : x1 = (5 : Int32)
            · have hf := pf_t c7 hf
              refine x_tableIn (off := 85) (tgt := 91) C dX10_now_6 (by rw [c7]; decide) (by rw [c7]; decide) (by rw [c7]; decide) (by decide) ?_
              refine x_aload_n C dX10_now_91 0 rfl ?_
              refine x_sipush (234 : Int32) C dX10_now_92 (by decide) ?_
              obtain ⟨r11, er11, hf⟩ := pf_b hf
              refine mc_sum C B dK (Nat.le_of_ble_eq_true rfl) er11 (Nat.le_of_ble_eq_true rfl) dX10_now_95 ?_
              obtain ⟨rfl, rfl⟩ := Prod.mk.inj (Option.some.inj hf)
              exact m_iret C hr hQ dX10_now_98
            · have hf := pf_f c7 hf
              by_cases c8 : x1 = (6 : Int32)
              · have hf := pf_t c8 hf
                refine x_tableIn (off := 93) (tgt := 99) C dX10_now_6 (by rw [c8]; decide) (by rw [c8]; decide) (by rw [c8]; decide) (by decide) ?_
                refine x_aload_n C dX10_now_99 0 rfl ?_
                refine mg_14 C B dX10_now_100 ?_
                refine x_sipush (200 : Int32) C dX10_now_103 (by decide) ?_
                refine mlc_14 200 C B (by decide +kernel) dX10_now_106 ?_
                obtain ⟨rfl, rfl⟩ := Prod.mk.inj (Option.some.inj hf)
                exact m_iret C hr hQ dX10_now_107
              · have hf := pf_f c8 hf
                refine x_tableOut (tgt := 108) C dX10_now_6 (by have := lv_neT c2 (show (0 : Int32).toInt = (0 : Int) by decide); have := lv_neT c3 (show (1 : Int32).toInt = (1 : Int) by decide); have := lv_neT c4 (show (2 : Int32).toInt = (2 : Int) by decide); have := lv_neT c5 (show (3 : Int32).toInt = (3 : Int) by decide); have := lv_neT c6 (show (4 : Int32).toInt = (4 : Int) by decide); have := lv_neT c7 (show (5 : Int32).toInt = (5 : Int) by decide); have := lv_neT c8 (show (6 : Int32).toInt = (6 : Int) by decide); omega) (by decide) ?_
                refine x_iconst (-1 : Int32) C dX10_now_108 (by decide) ?_
                obtain ⟨rfl, rfl⟩ := Prod.mk.inj (Option.some.inj hf)
                exact m_iret C hr hQ dX10_now_109
theorem met_now {M : MT} {v : (Int32 × MS)} {n : Nat} {σ : MS} {x1 : Int32} {l : Launch} (hc : (mCl M)[mCi M]? = some (RX10, TX10, 61)) (hf : f_now n x1 σ = some v) : Met l yX10_now (ws_ yX10_now cX10_now 2 (some .int)) (rmD 2) (va_Pc [.ref (mO M), .int x1] (MU M σ)) (Qm M (some (.int v.1)) v.2) 0 0 (mAd M) :=
  m_met [.ref (mO M), .int x1] (by decide) rfl (Nat.le_of_ble_eq_true rfl) hc (fun K hl hR hr C B hQ => w_now_E _ C B hr hR hQ _ _ hf)
def f_snap_51 (n : Nat) : Nat → Int32 → MS → Option MS
  | 0, _, _ => none
  | m + 1, x1, σ => if (92 : Int32) ≤ x1 then (ev (si σ 24 ((gi σ 24) + (1 : Int32))) fun s2 => some s2) else (if inb ((198 : Int32) + x1) 532 = true then if inb (((92 : Int32) * (gi σ 24)) + x1) 736 = true then ev (sa σ 17 (Int32.toNatClampNeg (((92 : Int32) * (gi σ 24)) + x1)) (ga σ 14 (Int32.toNatClampNeg ((198 : Int32) + x1)))) fun s5 => f_snap_51 n m (x1 + (1 : Int32)) s5 else none else none)
set_option maxHeartbeats 4000000 in
theorem w_snap_51 {K : KT} {M : MT} {τ : MS} (n : Nat) (C : Kok K cX10_snap 2 RX10) (B : MB K M) (hr : (kMe K).sig.returnType = none) (dK : kR K = rmD 1) (hQ : KQm K M none τ) : ∀ (m : Nat) (x1 : Int32) (σ : MS) (hf : f_snap_51 n m x1 σ = some τ), XJ K 2 (Wm K M σ) 51 [(0, .ref (mO M)), (1, .int x1)] [] := by
  intro m
  induction m with
  | zero => intro x1 σ hf; cases hf
  | succ m ih =>
    intro x1 σ hf
    rw [f_snap_51] at hf
    refine x_iload_n C dX10_snap_51 1 rfl ?_
    refine x_bipush (92 : Int32) C dX10_snap_52 (by decide) ?_
    refine x_icmp_ge (tgt := 87) C dX10_snap_54 (by decide) (fun c1 => ?_) (fun c1 => ?_)
    · have hf := pf_t c1 hf
      refine x_aload_n C dX10_snap_87 0 rfl ?_
      refine x_dup C dX10_snap_88 rfl ?_
      refine mg_24 C B dX10_snap_89 ?_
      refine x_iconst (1 : Int32) C dX10_snap_92 (by decide) ?_
      refine x_iadd C dX10_snap_93 ?_
      refine mp_24 C B dX10_snap_94 ?_
      obtain ⟨s2, es2, hf⟩ := pf_e hf
      refine m_ren es2 ?_
      obtain rfl := Option.some.inj hf
      exact m_vret C hr hQ dX10_snap_97
    · have hf := pf_f c1 hf
      refine x_aload_n C dX10_snap_57 0 rfl ?_
      refine mg_17 C B dX10_snap_58 ?_
      refine x_bipush (92 : Int32) C dX10_snap_61 (by decide) ?_
      refine x_aload_n C dX10_snap_63 0 rfl ?_
      refine mg_24 C B dX10_snap_64 ?_
      refine x_imul C dX10_snap_67 ?_
      refine x_iload_n C dX10_snap_68 1 rfl ?_
      refine x_iadd C dX10_snap_69 ?_
      refine x_aload_n C dX10_snap_70 0 rfl ?_
      refine mg_14 C B dX10_snap_71 ?_
      refine x_sipush (198 : Int32) C dX10_snap_74 (by decide) ?_
      refine x_iload_n C dX10_snap_77 1 rfl ?_
      refine x_iadd C dX10_snap_78 ?_
      obtain ⟨h3, hf⟩ := pf_in hf
      refine ml_14 C B h3 dX10_snap_79 ?_
      obtain ⟨h4, hf⟩ := pf_in hf
      refine ms_17 C B h4 dX10_snap_80 ?_
      obtain ⟨s5, es5, hf⟩ := pf_e hf
      refine m_ren es5 ?_
      refine x_inc (c := (1 : Int32)) (L' := [(0, .ref (mO M)), (1, .int (x1 + (1 : Int32)))]) C dX10_snap_81 1 rfl (by decide) (Nat.le_of_ble_eq_true rfl) [1, 0] rfl ?_
      refine x_goto (tgt := 51) C dX10_snap_84 (by decide) ?_
      exact ih (x1 + (1 : Int32)) _ hf
def f_snap_11 (n : Nat) : Nat → Int32 → MS → Option MS
  | 0, _, _ => none
  | m + 1, x1, σ => if (644 : Int32) ≤ x1 then (ev (si σ 24 ((gi σ 24) - (1 : Int32))) fun s2 => f_snap_51 n n (0 : Int32) s2) else (if inb (x1 + (92 : Int32)) 736 = true then if inb x1 736 = true then ev (sa σ 17 (Int32.toNatClampNeg x1) (ga σ 17 (Int32.toNatClampNeg (x1 + (92 : Int32))))) fun s5 => f_snap_11 n m (x1 + (1 : Int32)) s5 else none else none)
set_option maxHeartbeats 4000000 in
theorem w_snap_11 {K : KT} {M : MT} {τ : MS} (n : Nat) (C : Kok K cX10_snap 2 RX10) (B : MB K M) (hr : (kMe K).sig.returnType = none) (dK : kR K = rmD 1) (hQ : KQm K M none τ) : ∀ (m : Nat) (x1 : Int32) (σ : MS) (hf : f_snap_11 n m x1 σ = some τ), XJ K 2 (Wm K M σ) 11 [(0, .ref (mO M)), (1, .int x1)] [] := by
  intro m
  induction m with
  | zero => intro x1 σ hf; cases hf
  | succ m ih =>
    intro x1 σ hf
    rw [f_snap_11] at hf
    refine x_iload_n C dX10_snap_11 1 rfl ?_
    refine x_sipush (644 : Int32) C dX10_snap_12 (by decide) ?_
    refine x_icmp_ge (tgt := 39) C dX10_snap_15 (by decide) (fun c1 => ?_) (fun c1 => ?_)
    · have hf := pf_t c1 hf
      refine x_aload_n C dX10_snap_39 0 rfl ?_
      refine x_dup C dX10_snap_40 rfl ?_
      refine mg_24 C B dX10_snap_41 ?_
      refine x_iconst (1 : Int32) C dX10_snap_44 (by decide) ?_
      refine x_isub C dX10_snap_45 ?_
      refine mp_24 C B dX10_snap_46 ?_
      obtain ⟨s2, es2, hf⟩ := pf_e hf
      refine m_ren es2 ?_
      refine x_iconst (0 : Int32) C dX10_snap_49 (by decide) ?_
      refine x_istore_n (L' := [(0, .ref (mO M)), (1, .int (0 : Int32))]) C dX10_snap_50 (Nat.le_of_ble_eq_true rfl) [1, 0] rfl ?_
      exact w_snap_51 n C B hr dK hQ n (0 : Int32) _ hf
    · have hf := pf_f c1 hf
      refine x_aload_n C dX10_snap_18 0 rfl ?_
      refine mg_17 C B dX10_snap_19 ?_
      refine x_iload_n C dX10_snap_22 1 rfl ?_
      refine x_aload_n C dX10_snap_23 0 rfl ?_
      refine mg_17 C B dX10_snap_24 ?_
      refine x_iload_n C dX10_snap_27 1 rfl ?_
      refine x_bipush (92 : Int32) C dX10_snap_28 (by decide) ?_
      refine x_iadd C dX10_snap_30 ?_
      obtain ⟨h3, hf⟩ := pf_in hf
      refine ml_17 C B h3 dX10_snap_31 ?_
      obtain ⟨h4, hf⟩ := pf_in hf
      refine ms_17 C B h4 dX10_snap_32 ?_
      obtain ⟨s5, es5, hf⟩ := pf_e hf
      refine m_ren es5 ?_
      refine x_inc (c := (1 : Int32)) (L' := [(0, .ref (mO M)), (1, .int (x1 + (1 : Int32)))]) C dX10_snap_33 1 rfl (by decide) (Nat.le_of_ble_eq_true rfl) [1, 0] rfl ?_
      refine x_goto (tgt := 11) C dX10_snap_36 (by decide) ?_
      exact ih (x1 + (1 : Int32)) _ hf
def f_snap (n : Nat) (σ : MS) : Option MS := if (gi σ 24) = (8 : Int32) then (f_snap_11 n n (0 : Int32) σ) else (f_snap_51 n n (0 : Int32) σ)
set_option maxHeartbeats 4000000 in
theorem w_snap_E {K : KT} {M : MT} {τ : MS} (n : Nat) (C : Kok K cX10_snap 2 RX10) (B : MB K M) (hr : (kMe K).sig.returnType = none) (dK : kR K = rmD 1) (hQ : KQm K M none τ) (σ : MS) (hf : f_snap n σ = some τ) : XJ K 2 (Wm K M σ) 0 [(0, .ref (mO M))] [] := by
  unfold f_snap at hf
  refine x_aload_n C dX10_snap_0 0 rfl ?_
  refine mg_24 C B dX10_snap_1 ?_
  refine x_bipush (8 : Int32) C dX10_snap_4 (by decide) ?_
  refine x_icmp_ne (tgt := 49) C dX10_snap_6 (by decide) (fun c1 => ?_) (fun c1 => ?_)
  · have hf := pf_f c1 hf
    refine x_iconst (0 : Int32) C dX10_snap_49 (by decide) ?_
    refine x_istore_n (L' := [(0, .ref (mO M)), (1, .int (0 : Int32))]) C dX10_snap_50 (Nat.le_of_ble_eq_true rfl) [1, 0] rfl ?_
    exact w_snap_51 n C B hr dK hQ n (0 : Int32) _ hf
  · have hf := pf_t c1 hf
    refine x_iconst (0 : Int32) C dX10_snap_9 (by decide) ?_
    refine x_istore_n (L' := [(0, .ref (mO M)), (1, .int (0 : Int32))]) C dX10_snap_10 (Nat.le_of_ble_eq_true rfl) [1, 0] rfl ?_
    exact w_snap_11 n C B hr dK hQ n (0 : Int32) _ hf
theorem met_snap {M : MT} {v : MS} {n : Nat} {σ : MS} {l : Launch} (hc : (mCl M)[mCi M]? = some (RX10, TX10, 61)) (hf : f_snap n σ = some v) : Met l yX10_snap (ws_ yX10_snap cX10_snap 2 none) (rmD 1) (va_Pc [.ref (mO M)] (MU M σ)) (Qm M none v) 0 0 (mAd M) :=
  m_met [.ref (mO M)] (by decide) rfl (Nat.le_of_ble_eq_true rfl) hc (fun K hl hR hr C B hQ => w_snap_E _ C B hr hR hQ _ hf)
theorem mc_snap {K : KT} {M : MT} {cc : ByteArray} {nL pc dk : Nat} {L : List (Nat × Value)} {rest : List Value} {σ : MS} {v : MS} {n : Nat} (C : Kok K cc nL RX10) (B : MB K M) (dK : kR K = rmD dk) (hd : 1 + 1 ≤ dk) (hf : f_snap n σ = some v) (hW : (rest.map fun v => v.category).sum ≤ 8) (dd : decode cc pc = .ok (.invokevirtual 301, 3)) (kk2 : XJ K nL (Wm K M v) (pc + 3) L (rest)) : XJ K nL (Wm K M σ) pc L (.ref (mO M) :: rest) :=
  m_callV (rest := rest) (v := none) [] 0 rfl C B dK hd (Nat.le_of_ble_eq_true rfl) (lw_V q2180 q2182 qs76 q133 q2183) (by decide +kernel) (met_snap B.2 hf) rfl hW dd kk2
def f_whyMove (n : Nat) (σ : MS) (x1 : Int32) (x2 : Int32) : Option Int32 := if (f_isEvicted σ x1) = 0 then (if inb ((210 : Int32) + x1) 532 = true then if (ga σ 14 (Int32.toNatClampNeg ((210 : Int32) + x1))) = x2 then (some (2 : Int32)) else ((f_standsAt n σ x2).bind fun r4 => if r4 = (-1 : Int32) then (some (0 : Int32)) else (some (3 : Int32))) else none) else (some (1 : Int32))
set_option maxHeartbeats 4000000 in
theorem w_whyMove_E {K : KT} {M : MT} {r : Int32} (n : Nat) (σ : MS) (C : Kok K cX10_whyMove 3 RX10) (B : MB K M) (hr : (kMe K).sig.returnType = some .int) (dK : kR K = rmD 3) (hQ : KQm K M (some (.int r)) σ) (x1 : Int32) (x2 : Int32) (hf : f_whyMove n σ x1 x2 = some r) : XJ K 3 (Wm K M σ) 0 [(0, .ref (mO M)), (1, .int x1), (2, .int x2)] [] := by
  unfold f_whyMove at hf
  refine x_aload_n C dX10_whyMove_0 0 rfl ?_
  refine x_iload_n C dX10_whyMove_1 1 rfl ?_
  refine mc_isEvicted C B dK (Nat.le_of_ble_eq_true rfl) rfl (Nat.le_of_ble_eq_true rfl) dX10_whyMove_2 ?_
  refine x_if_eq (tgt := 12) C dX10_whyMove_5 (by decide) (fun c1 => ?_) (fun c1 => ?_)
  · have hf := pf_t c1 hf
    refine x_aload_n C dX10_whyMove_12 0 rfl ?_
    refine mg_14 C B dX10_whyMove_13 ?_
    refine x_sipush (210 : Int32) C dX10_whyMove_16 (by decide) ?_
    refine x_iload_n C dX10_whyMove_19 1 rfl ?_
    refine x_iadd C dX10_whyMove_20 ?_
    obtain ⟨h2, hf⟩ := pf_in hf
    refine ml_14 C B h2 dX10_whyMove_21 ?_
    refine x_iload_n C dX10_whyMove_22 2 rfl ?_
    refine x_icmp_ne (tgt := 30) C dX10_whyMove_23 (by decide) (fun c3 => ?_) (fun c3 => ?_)
    · have hf := pf_f c3 hf
      refine x_aload_n C dX10_whyMove_30 0 rfl ?_
      refine x_iload_n C dX10_whyMove_31 2 rfl ?_
      obtain ⟨r4, er4, hf⟩ := pf_b hf
      refine mc_standsAt C B dK (Nat.le_of_ble_eq_true rfl) er4 (Nat.le_of_ble_eq_true rfl) dX10_whyMove_32 ?_
      refine x_iconst (-1 : Int32) C dX10_whyMove_35 (by decide) ?_
      refine x_icmp_eq (tgt := 43) C dX10_whyMove_36 (by decide) (fun c5 => ?_) (fun c5 => ?_)
      · have hf := pf_t c5 hf
        refine x_iconst (0 : Int32) C dX10_whyMove_43 (by decide) ?_
        obtain rfl := Option.some.inj hf
        exact m_iret C hr hQ dX10_whyMove_44
      · have hf := pf_f c5 hf
        refine x_iconst (3 : Int32) C dX10_whyMove_39 (by decide) ?_
        refine x_goto (tgt := 44) C dX10_whyMove_40 (by decide) ?_
        obtain rfl := Option.some.inj hf
        exact m_iret C hr hQ dX10_whyMove_44
    · have hf := pf_t c3 hf
      refine x_iconst (2 : Int32) C dX10_whyMove_26 (by decide) ?_
      refine x_goto (tgt := 44) C dX10_whyMove_27 (by decide) ?_
      obtain rfl := Option.some.inj hf
      exact m_iret C hr hQ dX10_whyMove_44
  · have hf := pf_f c1 hf
    refine x_iconst (1 : Int32) C dX10_whyMove_8 (by decide) ?_
    refine x_goto (tgt := 44) C dX10_whyMove_9 (by decide) ?_
    obtain rfl := Option.some.inj hf
    exact m_iret C hr hQ dX10_whyMove_44
theorem met_whyMove {M : MT} {v : Int32} {n : Nat} {σ : MS} {x1 : Int32} {x2 : Int32} {l : Launch} (hc : (mCl M)[mCi M]? = some (RX10, TX10, 61)) (hf : f_whyMove n σ x1 x2 = some v) : Met l yX10_whyMove (ws_ yX10_whyMove cX10_whyMove 3 (some .int)) (rmD 3) (va_Pc [.ref (mO M), .int x1, .int x2] (MU M σ)) (Qm M (some (.int v)) σ) 0 0 (mAd M) :=
  m_met [.ref (mO M), .int x1, .int x2] (by decide) rfl (Nat.le_of_ble_eq_true rfl) hc (fun K hl hR hr C B hQ => w_whyMove_E _ _ C B hr hR hQ _ _ hf)
theorem mc_whyMove {K : KT} {M : MT} {cc : ByteArray} {nL pc dk : Nat} {L : List (Nat × Value)} {rest : List Value} {σ : MS} {v : Int32} {n : Nat} {x1 : Int32} {x2 : Int32} (C : Kok K cc nL RX10) (B : MB K M) (dK : kR K = rmD dk) (hd : 3 + 1 ≤ dk) (hf : f_whyMove n σ x1 x2 = some v) (hW : (rest.map fun v => v.category).sum ≤ 8) (dd : decode cc pc = .ok (.invokevirtual 298, 3)) (kk2 : XJ K nL (Wm K M σ) (pc + 3) L ((.int v) :: rest)) : XJ K nL (Wm K M σ) pc L (.int x2 :: .int x1 :: .ref (mO M) :: rest) :=
  m_callV (rest := rest) (v := (some (.int v))) [.int x1, .int x2] 2 rfl C B dK hd (Nat.le_of_ble_eq_true rfl) (lw_V q2176 q2178 qs75 q133 q2179) (by decide +kernel) (met_whyMove B.2 hf) rfl hW dd kk2
def f_move (n : Nat) (x1 : Int32) (x2 : Int32) (σ : MS) : Option (Int32 × MS) := ev (si σ 0 (0 : Int32)) fun s1 => if (f_isStatue s1 x1) = 0 then (some ((-1 : Int32), s1)) else (if (f_isSquare s1 x2) = 0 then (some ((-1 : Int32), s1)) else ((f_whyMove n s1 x1 x2).bind fun r4 => if r4 = 0 then ((f_snap n s1).bind fun r6 => if inb ((210 : Int32) + x1) 532 = true then ev (sa r6 14 (Int32.toNatClampNeg ((210 : Int32) + x1)) x2) fun s8 => some ((0 : Int32), s8) else none) else (some (r4, s1))))
set_option maxHeartbeats 4000000 in
theorem w_move_E {K : KT} {M : MT} {r : Int32} {τ : MS} (n : Nat) (C : Kok K cX10_move 4 RX10) (B : MB K M) (hr : (kMe K).sig.returnType = some .int) (dK : kR K = rmD 4) (hQ : KQm K M (some (.int r)) τ) (x1 : Int32) (x2 : Int32) (σ : MS) (hf : f_move n x1 x2 σ = some (r, τ)) : XJ K 4 (Wm K M σ) 0 [(0, .ref (mO M)), (1, .int x1), (2, .int x2)] [] := by
  unfold f_move at hf
  refine x_aload_n C dX10_move_0 0 rfl ?_
  refine x_iconst (0 : Int32) C dX10_move_1 (by decide) ?_
  refine mp_0 C B dX10_move_2 ?_
  obtain ⟨s1, es1, hf⟩ := pf_e hf
  refine m_ren es1 ?_
  refine x_aload_n C dX10_move_5 0 rfl ?_
  refine x_iload_n C dX10_move_6 1 rfl ?_
  refine mc_isStatue C B dK (Nat.le_of_ble_eq_true rfl) rfl (Nat.le_of_ble_eq_true rfl) dX10_move_7 ?_
  refine x_if_eq (tgt := 21) C dX10_move_10 (by decide) (fun c2 => ?_) (fun c2 => ?_)
  · have hf := pf_t c2 hf
    refine x_iconst (-1 : Int32) C dX10_move_21 (by decide) ?_
    obtain ⟨rfl, rfl⟩ := Prod.mk.inj (Option.some.inj hf)
    exact m_iret C hr hQ dX10_move_22
  · have hf := pf_f c2 hf
    refine x_aload_n C dX10_move_13 0 rfl ?_
    refine x_iload_n C dX10_move_14 2 rfl ?_
    refine mc_isSquare C B dK (Nat.le_of_ble_eq_true rfl) rfl (Nat.le_of_ble_eq_true rfl) dX10_move_15 ?_
    refine x_if_ne (tgt := 23) C dX10_move_18 (by decide) (fun c3 => ?_) (fun c3 => ?_)
    · have hf := pf_f c3 hf
      refine x_aload_n C dX10_move_23 0 rfl ?_
      refine x_iload_n C dX10_move_24 1 rfl ?_
      refine x_iload_n C dX10_move_25 2 rfl ?_
      obtain ⟨r4, er4, hf⟩ := pf_b hf
      refine mc_whyMove C B dK (Nat.le_of_ble_eq_true rfl) er4 (Nat.le_of_ble_eq_true rfl) dX10_move_26 ?_
      refine x_istore_n (L' := [(0, .ref (mO M)), (1, .int x1), (2, .int x2), (3, .int r4)]) C dX10_move_29 (Nat.le_of_ble_eq_true rfl) [1, 2, 3, 0] rfl ?_
      refine x_iload_n C dX10_move_30 3 rfl ?_
      refine x_if_eq (tgt := 36) C dX10_move_31 (by decide) (fun c5 => ?_) (fun c5 => ?_)
      · have hf := pf_t c5 hf
        refine x_aload_n C dX10_move_36 0 rfl ?_
        obtain ⟨r6, er6, hf⟩ := pf_b hf
        refine mc_snap C B dK (Nat.le_of_ble_eq_true rfl) er6 (Nat.le_of_ble_eq_true rfl) dX10_move_37 ?_
        refine x_aload_n C dX10_move_40 0 rfl ?_
        refine mg_14 C B dX10_move_41 ?_
        refine x_sipush (210 : Int32) C dX10_move_44 (by decide) ?_
        refine x_iload_n C dX10_move_47 1 rfl ?_
        refine x_iadd C dX10_move_48 ?_
        refine x_iload_n C dX10_move_49 2 rfl ?_
        obtain ⟨h7, hf⟩ := pf_in hf
        refine ms_14 C B h7 dX10_move_50 ?_
        obtain ⟨s8, es8, hf⟩ := pf_e hf
        refine m_ren es8 ?_
        refine x_iconst (0 : Int32) C dX10_move_51 (by decide) ?_
        obtain ⟨rfl, rfl⟩ := Prod.mk.inj (Option.some.inj hf)
        exact m_iret C hr hQ dX10_move_52
      · have hf := pf_f c5 hf
        refine x_iload_n C dX10_move_34 3 rfl ?_
        obtain ⟨rfl, rfl⟩ := Prod.mk.inj (Option.some.inj hf)
        exact m_iret C hr hQ dX10_move_35
    · have hf := pf_t c3 hf
      refine x_iconst (-1 : Int32) C dX10_move_21 (by decide) ?_
      obtain ⟨rfl, rfl⟩ := Prod.mk.inj (Option.some.inj hf)
      exact m_iret C hr hQ dX10_move_22
theorem met_move {M : MT} {v : (Int32 × MS)} {n : Nat} {σ : MS} {x1 : Int32} {x2 : Int32} {l : Launch} (hc : (mCl M)[mCi M]? = some (RX10, TX10, 61)) (hf : f_move n x1 x2 σ = some v) : Met l yX10_move (ws_ yX10_move cX10_move 4 (some .int)) (rmD 4) (va_Pc [.ref (mO M), .int x1, .int x2] (MU M σ)) (Qm M (some (.int v.1)) v.2) 0 0 (mAd M) :=
  m_met [.ref (mO M), .int x1, .int x2] (by decide) rfl (Nat.le_of_ble_eq_true rfl) hc (fun K hl hR hr C B hQ => w_move_E _ C B hr hR hQ _ _ _ hf)
def f_doClean (x1 : Int32) (σ : MS) : Option MS := ev (sa σ 14 200 ((ga σ 14 200) &&& (((1 : Int32) <<< (x1 &&& 31)) ^^^ (-1 : Int32)))) fun s1 => if inb ((218 : Int32) + x1) 532 = true then if inb ((218 : Int32) + x1) 532 = true then ev (sa s1 14 (Int32.toNatClampNeg ((218 : Int32) + x1)) ((ga s1 14 (Int32.toNatClampNeg ((218 : Int32) + x1))) - (5 : Int32))) fun s4 => some s4 else none else none
set_option maxHeartbeats 4000000 in
theorem w_doClean_E {K : KT} {M : MT} {τ : MS} (C : Kok K cX10_doClean 2 RX10) (B : MB K M) (hr : (kMe K).sig.returnType = none) (dK : kR K = rmD 1) (hQ : KQm K M none τ) (x1 : Int32) (σ : MS) (hf : f_doClean x1 σ = some τ) : XJ K 2 (Wm K M σ) 0 [(0, .ref (mO M)), (1, .int x1)] [] := by
  unfold f_doClean at hf
  refine x_aload_n C dX10_doClean_0 0 rfl ?_
  refine mg_14 C B dX10_doClean_1 ?_
  refine x_sipush (200 : Int32) C dX10_doClean_4 (by decide) ?_
  refine x_dup2_11 C dX10_doClean_7 rfl rfl ?_
  refine mlc_14 200 C B (by decide +kernel) dX10_doClean_8 ?_
  refine x_iconst (1 : Int32) C dX10_doClean_9 (by decide) ?_
  refine x_iload_n C dX10_doClean_10 1 rfl ?_
  refine x_ishl C dX10_doClean_11 ?_
  refine x_iconst (-1 : Int32) C dX10_doClean_12 (by decide) ?_
  refine x_ixor C dX10_doClean_13 ?_
  refine x_iand C dX10_doClean_14 ?_
  refine msc_14 200 C B (by decide +kernel) dX10_doClean_15 ?_
  obtain ⟨s1, es1, hf⟩ := pf_e hf
  refine m_ren es1 ?_
  refine x_aload_n C dX10_doClean_16 0 rfl ?_
  refine mg_14 C B dX10_doClean_17 ?_
  refine x_sipush (218 : Int32) C dX10_doClean_20 (by decide) ?_
  refine x_iload_n C dX10_doClean_23 1 rfl ?_
  refine x_iadd C dX10_doClean_24 ?_
  refine x_dup2_11 C dX10_doClean_25 rfl rfl ?_
  obtain ⟨h2, hf⟩ := pf_in hf
  refine ml_14 C B h2 dX10_doClean_26 ?_
  refine x_iconst (5 : Int32) C dX10_doClean_27 (by decide) ?_
  refine x_isub C dX10_doClean_28 ?_
  obtain ⟨h3, hf⟩ := pf_in hf
  refine ms_14 C B h3 dX10_doClean_29 ?_
  obtain ⟨s4, es4, hf⟩ := pf_e hf
  refine m_ren es4 ?_
  obtain rfl := Option.some.inj hf
  exact m_vret C hr hQ dX10_doClean_30
theorem met_doClean {M : MT} {v : MS} {σ : MS} {x1 : Int32} {l : Launch} (hc : (mCl M)[mCi M]? = some (RX10, TX10, 61)) (hf : f_doClean x1 σ = some v) : Met l yX10_doClean (ws_ yX10_doClean cX10_doClean 2 none) (rmD 1) (va_Pc [.ref (mO M), .int x1] (MU M σ)) (Qm M none v) 0 0 (mAd M) :=
  m_met [.ref (mO M), .int x1] (by decide) rfl (Nat.le_of_ble_eq_true rfl) hc (fun K hl hR hr C B hQ => w_doClean_E C B hr hR hQ _ _ hf)
theorem mc_doClean {K : KT} {M : MT} {cc : ByteArray} {nL pc dk : Nat} {L : List (Nat × Value)} {rest : List Value} {σ : MS} {v : MS} {x1 : Int32} (C : Kok K cc nL RX10) (B : MB K M) (dK : kR K = rmD dk) (hd : 1 + 1 ≤ dk) (hf : f_doClean x1 σ = some v) (hW : (rest.map fun v => v.category).sum ≤ 8) (dd : decode cc pc = .ok (.invokevirtual 307, 3)) (kk2 : XJ K nL (Wm K M v) (pc + 3) L (rest)) : XJ K nL (Wm K M σ) pc L (.int x1 :: .ref (mO M) :: rest) :=
  m_callV (rest := rest) (v := none) [.int x1] 1 rfl C B dK hd (Nat.le_of_ble_eq_true rfl) (lw_V q2192 q2194 qs78 q133 q2195) (by decide +kernel) (met_doClean B.2 hf) rfl hW dd kk2
def f_whyClean (σ : MS) (x1 : Int32) : Option Int32 := if (f_isEvicted σ x1) = 0 then (if (f_has (ga σ 14 200) x1) = 0 then (some (2 : Int32)) else (if inb ((218 : Int32) + x1) 532 = true then if (5 : Int32) ≤ (ga σ 14 (Int32.toNatClampNeg ((218 : Int32) + x1))) then (some (0 : Int32)) else (some (3 : Int32)) else none)) else (some (1 : Int32))
set_option maxHeartbeats 4000000 in
theorem w_whyClean_E {K : KT} {M : MT} {r : Int32} (σ : MS) (C : Kok K cX10_whyClean 2 RX10) (B : MB K M) (hr : (kMe K).sig.returnType = some .int) (dK : kR K = rmD 3) (hQ : KQm K M (some (.int r)) σ) (x1 : Int32) (hf : f_whyClean σ x1 = some r) : XJ K 2 (Wm K M σ) 0 [(0, .ref (mO M)), (1, .int x1)] [] := by
  unfold f_whyClean at hf
  refine x_aload_n C dX10_whyClean_0 0 rfl ?_
  refine x_iload_n C dX10_whyClean_1 1 rfl ?_
  refine mc_isEvicted C B dK (Nat.le_of_ble_eq_true rfl) rfl (Nat.le_of_ble_eq_true rfl) dX10_whyClean_2 ?_
  refine x_if_eq (tgt := 12) C dX10_whyClean_5 (by decide) (fun c1 => ?_) (fun c1 => ?_)
  · have hf := pf_t c1 hf
    refine x_aload_n C dX10_whyClean_12 0 rfl ?_
    refine mg_14 C B dX10_whyClean_13 ?_
    refine x_sipush (200 : Int32) C dX10_whyClean_16 (by decide) ?_
    refine mlc_14 200 C B (by decide +kernel) dX10_whyClean_19 ?_
    refine x_iload_n C dX10_whyClean_20 1 rfl ?_
    refine mc_has C B dK (Nat.le_of_ble_eq_true rfl) rfl (Nat.le_of_ble_eq_true rfl) dX10_whyClean_21 ?_
    refine x_if_ne (tgt := 31) C dX10_whyClean_24 (by decide) (fun c2 => ?_) (fun c2 => ?_)
    · have hf := pf_f c2 hf
      refine x_aload_n C dX10_whyClean_31 0 rfl ?_
      refine mg_14 C B dX10_whyClean_32 ?_
      refine x_sipush (218 : Int32) C dX10_whyClean_35 (by decide) ?_
      refine x_iload_n C dX10_whyClean_38 1 rfl ?_
      refine x_iadd C dX10_whyClean_39 ?_
      obtain ⟨h3, hf⟩ := pf_in hf
      refine ml_14 C B h3 dX10_whyClean_40 ?_
      refine x_iconst (5 : Int32) C dX10_whyClean_41 (by decide) ?_
      refine x_icmp_ge (tgt := 49) C dX10_whyClean_42 (by decide) (fun c4 => ?_) (fun c4 => ?_)
      · have hf := pf_t c4 hf
        refine x_iconst (0 : Int32) C dX10_whyClean_49 (by decide) ?_
        obtain rfl := Option.some.inj hf
        exact m_iret C hr hQ dX10_whyClean_50
      · have hf := pf_f c4 hf
        refine x_iconst (3 : Int32) C dX10_whyClean_45 (by decide) ?_
        refine x_goto (tgt := 50) C dX10_whyClean_46 (by decide) ?_
        obtain rfl := Option.some.inj hf
        exact m_iret C hr hQ dX10_whyClean_50
    · have hf := pf_t c2 hf
      refine x_iconst (2 : Int32) C dX10_whyClean_27 (by decide) ?_
      refine x_goto (tgt := 50) C dX10_whyClean_28 (by decide) ?_
      obtain rfl := Option.some.inj hf
      exact m_iret C hr hQ dX10_whyClean_50
  · have hf := pf_f c1 hf
    refine x_iconst (1 : Int32) C dX10_whyClean_8 (by decide) ?_
    refine x_goto (tgt := 50) C dX10_whyClean_9 (by decide) ?_
    obtain rfl := Option.some.inj hf
    exact m_iret C hr hQ dX10_whyClean_50
theorem met_whyClean {M : MT} {v : Int32} {σ : MS} {x1 : Int32} {l : Launch} (hc : (mCl M)[mCi M]? = some (RX10, TX10, 61)) (hf : f_whyClean σ x1 = some v) : Met l yX10_whyClean (ws_ yX10_whyClean cX10_whyClean 2 (some .int)) (rmD 3) (va_Pc [.ref (mO M), .int x1] (MU M σ)) (Qm M (some (.int v)) σ) 0 0 (mAd M) :=
  m_met [.ref (mO M), .int x1] (by decide) rfl (Nat.le_of_ble_eq_true rfl) hc (fun K hl hR hr C B hQ => w_whyClean_E _ C B hr hR hQ _ hf)
theorem mc_whyClean {K : KT} {M : MT} {cc : ByteArray} {nL pc dk : Nat} {L : List (Nat × Value)} {rest : List Value} {σ : MS} {v : Int32} {x1 : Int32} (C : Kok K cc nL RX10) (B : MB K M) (dK : kR K = rmD dk) (hd : 3 + 1 ≤ dk) (hf : f_whyClean σ x1 = some v) (hW : (rest.map fun v => v.category).sum ≤ 8) (dd : decode cc pc = .ok (.invokevirtual 304, 3)) (kk2 : XJ K nL (Wm K M σ) (pc + 3) L ((.int v) :: rest)) : XJ K nL (Wm K M σ) pc L (.int x1 :: .ref (mO M) :: rest) :=
  m_callV (rest := rest) (v := (some (.int v))) [.int x1] 1 rfl C B dK hd (Nat.le_of_ble_eq_true rfl) (lw_V q2188 q2190 qs77 q133 q2191) (by decide +kernel) (met_whyClean B.2 hf) rfl hW dd kk2
def f_clean (n : Nat) (x1 : Int32) (σ : MS) : Option (Int32 × MS) := ev (si σ 0 (0 : Int32)) fun s1 => if (f_isStatue s1 x1) = 0 then (some ((-1 : Int32), s1)) else ((f_whyClean s1 x1).bind fun r3 => if r3 = 0 then ((f_snap n s1).bind fun r5 => (f_doClean x1 r5).bind fun r6 => some ((0 : Int32), r6)) else (some (r3, s1)))
set_option maxHeartbeats 4000000 in
theorem w_clean_E {K : KT} {M : MT} {r : Int32} {τ : MS} (n : Nat) (C : Kok K cX10_clean 3 RX10) (B : MB K M) (hr : (kMe K).sig.returnType = some .int) (dK : kR K = rmD 4) (hQ : KQm K M (some (.int r)) τ) (x1 : Int32) (σ : MS) (hf : f_clean n x1 σ = some (r, τ)) : XJ K 3 (Wm K M σ) 0 [(0, .ref (mO M)), (1, .int x1)] [] := by
  unfold f_clean at hf
  refine x_aload_n C dX10_clean_0 0 rfl ?_
  refine x_iconst (0 : Int32) C dX10_clean_1 (by decide) ?_
  refine mp_0 C B dX10_clean_2 ?_
  obtain ⟨s1, es1, hf⟩ := pf_e hf
  refine m_ren es1 ?_
  refine x_aload_n C dX10_clean_5 0 rfl ?_
  refine x_iload_n C dX10_clean_6 1 rfl ?_
  refine mc_isStatue C B dK (Nat.le_of_ble_eq_true rfl) rfl (Nat.le_of_ble_eq_true rfl) dX10_clean_7 ?_
  refine x_if_ne (tgt := 15) C dX10_clean_10 (by decide) (fun c2 => ?_) (fun c2 => ?_)
  · have hf := pf_f c2 hf
    refine x_aload_n C dX10_clean_15 0 rfl ?_
    refine x_iload_n C dX10_clean_16 1 rfl ?_
    obtain ⟨r3, er3, hf⟩ := pf_b hf
    refine mc_whyClean C B dK (Nat.le_of_ble_eq_true rfl) er3 (Nat.le_of_ble_eq_true rfl) dX10_clean_17 ?_
    refine x_istore_n (L' := [(0, .ref (mO M)), (1, .int x1), (2, .int r3)]) C dX10_clean_20 (Nat.le_of_ble_eq_true rfl) [1, 2, 0] rfl ?_
    refine x_iload_n C dX10_clean_21 2 rfl ?_
    refine x_if_eq (tgt := 27) C dX10_clean_22 (by decide) (fun c4 => ?_) (fun c4 => ?_)
    · have hf := pf_t c4 hf
      refine x_aload_n C dX10_clean_27 0 rfl ?_
      obtain ⟨r5, er5, hf⟩ := pf_b hf
      refine mc_snap C B dK (Nat.le_of_ble_eq_true rfl) er5 (Nat.le_of_ble_eq_true rfl) dX10_clean_28 ?_
      refine x_aload_n C dX10_clean_31 0 rfl ?_
      refine x_iload_n C dX10_clean_32 1 rfl ?_
      obtain ⟨r6, er6, hf⟩ := pf_b hf
      refine mc_doClean C B dK (Nat.le_of_ble_eq_true rfl) er6 (Nat.le_of_ble_eq_true rfl) dX10_clean_33 ?_
      refine x_iconst (0 : Int32) C dX10_clean_36 (by decide) ?_
      obtain ⟨rfl, rfl⟩ := Prod.mk.inj (Option.some.inj hf)
      exact m_iret C hr hQ dX10_clean_37
    · have hf := pf_f c4 hf
      refine x_iload_n C dX10_clean_25 2 rfl ?_
      obtain ⟨rfl, rfl⟩ := Prod.mk.inj (Option.some.inj hf)
      exact m_iret C hr hQ dX10_clean_26
  · have hf := pf_t c2 hf
    refine x_iconst (-1 : Int32) C dX10_clean_13 (by decide) ?_
    obtain ⟨rfl, rfl⟩ := Prod.mk.inj (Option.some.inj hf)
    exact m_iret C hr hQ dX10_clean_14
theorem met_clean {M : MT} {v : (Int32 × MS)} {n : Nat} {σ : MS} {x1 : Int32} {l : Launch} (hc : (mCl M)[mCi M]? = some (RX10, TX10, 61)) (hf : f_clean n x1 σ = some v) : Met l yX10_clean (ws_ yX10_clean cX10_clean 3 (some .int)) (rmD 4) (va_Pc [.ref (mO M), .int x1] (MU M σ)) (Qm M (some (.int v.1)) v.2) 0 0 (mAd M) :=
  m_met [.ref (mO M), .int x1] (by decide) rfl (Nat.le_of_ble_eq_true rfl) hc (fun K hl hR hr C B hQ => w_clean_E _ C B hr hR hQ _ _ hf)
def f_doShow (x1 : Int32) (x2 : Int32) (σ : MS) : Option MS := if inb ((202 : Int32) + x1) 532 = true then ev (sa σ 14 (Int32.toNatClampNeg ((202 : Int32) + x1)) x2) fun s2 => if inb ((218 : Int32) + x1) 532 = true then if inb ((218 : Int32) + x1) 532 = true then ev (sa s2 14 (Int32.toNatClampNeg ((218 : Int32) + x1)) ((ga s2 14 (Int32.toNatClampNeg ((218 : Int32) + x1))) - (10 : Int32))) fun s5 => some s5 else none else none else none
set_option maxHeartbeats 4000000 in
theorem w_doShow_E {K : KT} {M : MT} {τ : MS} (C : Kok K cX10_doShow 3 RX10) (B : MB K M) (hr : (kMe K).sig.returnType = none) (dK : kR K = rmD 1) (hQ : KQm K M none τ) (x1 : Int32) (x2 : Int32) (σ : MS) (hf : f_doShow x1 x2 σ = some τ) : XJ K 3 (Wm K M σ) 0 [(0, .ref (mO M)), (1, .int x1), (2, .int x2)] [] := by
  unfold f_doShow at hf
  refine x_aload_n C dX10_doShow_0 0 rfl ?_
  refine mg_14 C B dX10_doShow_1 ?_
  refine x_sipush (202 : Int32) C dX10_doShow_4 (by decide) ?_
  refine x_iload_n C dX10_doShow_7 1 rfl ?_
  refine x_iadd C dX10_doShow_8 ?_
  refine x_iload_n C dX10_doShow_9 2 rfl ?_
  obtain ⟨h1, hf⟩ := pf_in hf
  refine ms_14 C B h1 dX10_doShow_10 ?_
  obtain ⟨s2, es2, hf⟩ := pf_e hf
  refine m_ren es2 ?_
  refine x_aload_n C dX10_doShow_11 0 rfl ?_
  refine mg_14 C B dX10_doShow_12 ?_
  refine x_sipush (218 : Int32) C dX10_doShow_15 (by decide) ?_
  refine x_iload_n C dX10_doShow_18 1 rfl ?_
  refine x_iadd C dX10_doShow_19 ?_
  refine x_dup2_11 C dX10_doShow_20 rfl rfl ?_
  obtain ⟨h3, hf⟩ := pf_in hf
  refine ml_14 C B h3 dX10_doShow_21 ?_
  refine x_bipush (10 : Int32) C dX10_doShow_22 (by decide) ?_
  refine x_isub C dX10_doShow_24 ?_
  obtain ⟨h4, hf⟩ := pf_in hf
  refine ms_14 C B h4 dX10_doShow_25 ?_
  obtain ⟨s5, es5, hf⟩ := pf_e hf
  refine m_ren es5 ?_
  obtain rfl := Option.some.inj hf
  exact m_vret C hr hQ dX10_doShow_26
theorem met_doShow {M : MT} {v : MS} {σ : MS} {x1 : Int32} {x2 : Int32} {l : Launch} (hc : (mCl M)[mCi M]? = some (RX10, TX10, 61)) (hf : f_doShow x1 x2 σ = some v) : Met l yX10_doShow (ws_ yX10_doShow cX10_doShow 3 none) (rmD 1) (va_Pc [.ref (mO M), .int x1, .int x2] (MU M σ)) (Qm M none v) 0 0 (mAd M) :=
  m_met [.ref (mO M), .int x1, .int x2] (by decide) rfl (Nat.le_of_ble_eq_true rfl) hc (fun K hl hR hr C B hQ => w_doShow_E C B hr hR hQ _ _ _ hf)
theorem mc_doShow {K : KT} {M : MT} {cc : ByteArray} {nL pc dk : Nat} {L : List (Nat × Value)} {rest : List Value} {σ : MS} {v : MS} {x1 : Int32} {x2 : Int32} (C : Kok K cc nL RX10) (B : MB K M) (dK : kR K = rmD dk) (hd : 1 + 1 ≤ dk) (hf : f_doShow x1 x2 σ = some v) (hW : (rest.map fun v => v.category).sum ≤ 8) (dd : decode cc pc = .ok (.invokevirtual 313, 3)) (kk2 : XJ K nL (Wm K M v) (pc + 3) L (rest)) : XJ K nL (Wm K M σ) pc L (.int x2 :: .int x1 :: .ref (mO M) :: rest) :=
  m_callV (rest := rest) (v := none) [.int x1, .int x2] 2 rfl C B dK hd (Nat.le_of_ble_eq_true rfl) (lw_V q2204 q2206 qs80 q133 q2207) (by decide +kernel) (met_doShow B.2 hf) rfl hW dd kk2
