set_option maxRecDepth 100000
def f_today_54 (n : Nat) : Nat → Int32 → Int32 → Int32 → Int32 → MS → Option (Int32 × MS)
  | 0, _, _, _, _, _ => none
  | m + 1, x1, x2, x3, x4, σ => if (ga σ 14 4) ≤ x4 then ((f_part n x3 (12 : Int32) x2).bind fun r2 => some (r2, σ)) else (if inb ((70 : Int32) + x4) 532 = true then if ¬ (ga σ 14 (Int32.toNatClampNeg ((70 : Int32) + x4))) = 0 then if ((ga σ 14 198) - (ga σ 14 198) / (ga σ 14 (Int32.toNatClampNeg ((70 : Int32) + x4))) * (ga σ 14 (Int32.toNatClampNeg ((70 : Int32) + x4)))) = 0 then (if inb ((210 : Int32) + x1) 532 = true then (f_comes n σ x4 (ga σ 14 (Int32.toNatClampNeg ((210 : Int32) + x1)))).bind fun r7 => if r7 = 0 then (f_today_54 n m x1 x2 x3 (x4 + (1 : Int32)) σ) else ((f_worthOf σ x4 (f_has (ga σ 14 200) x1)).bind fun r9 => if inb ((202 : Int32) + x1) 532 = true then (f_chance σ x4 (ga σ 14 (Int32.toNatClampNeg ((202 : Int32) + x1)))).bind fun r11 => ev (x3 + (r9 * r11)) fun v12 => f_today_54 n m x1 x2 v12 (x4 + (1 : Int32)) σ else none) else none) else (f_today_54 n m x1 x2 x3 (x4 + (1 : Int32)) σ) else none else none)
set_option maxHeartbeats 4000000 in
theorem w_today_54 {K : KT} {M : MT} {r : Int32} {τ : MS} (n : Nat) (C : Kok K cX10_today 5 RX10) (B : MB K M) (hr : (kMe K).sig.returnType = some .int) (dK : kR K = rmD 3) (hQ : KQm K M (some (.int r)) τ) : ∀ (m : Nat) (x1 : Int32) (x2 : Int32) (x3 : Int32) (x4 : Int32) (σ : MS) (hf : f_today_54 n m x1 x2 x3 x4 σ = some (r, τ)), XJ K 5 (Wm K M σ) 54 [(0, .ref (mO M)), (1, .int x1), (2, .int x2), (3, .int x3), (4, .int x4)] [] := by
  intro m
  induction m with
  | zero => intro x1 x2 x3 x4 σ hf; cases hf
  | succ m ih =>
    intro x1 x2 x3 x4 σ hf
    rw [f_today_54] at hf
    refine x_iload C dX10_today_54 4 rfl ?_
    refine x_aload_n C dX10_today_56 0 rfl ?_
    refine mg_14 C B dX10_today_57 ?_
    refine x_iconst (4 : Int32) C dX10_today_60 (by decide) ?_
    refine mlc_14 4 C B (by decide +kernel) dX10_today_61 ?_
    refine x_icmp_ge (tgt := 150) C dX10_today_62 (by decide) (fun c1 => ?_) (fun c1 => ?_)
    · have hf := pf_t c1 hf
      refine x_iload_n C dX10_today_150 3 rfl ?_
      refine x_bipush (12 : Int32) C dX10_today_151 (by decide) ?_
      refine x_iload_n C dX10_today_153 2 rfl ?_
      obtain ⟨r2, er2, hf⟩ := pf_b hf
      refine mc_part C B dK (Nat.le_of_ble_eq_true rfl) er2 (Nat.le_of_ble_eq_true rfl) dX10_today_154 ?_
      obtain ⟨rfl, rfl⟩ := Prod.mk.inj (Option.some.inj hf)
      exact m_iret C hr hQ dX10_today_157
    · have hf := pf_f c1 hf
      refine x_aload_n C dX10_today_65 0 rfl ?_
      refine mg_14 C B dX10_today_66 ?_
      refine x_sipush (198 : Int32) C dX10_today_69 (by decide) ?_
      refine mlc_14 198 C B (by decide +kernel) dX10_today_72 ?_
      refine x_aload_n C dX10_today_73 0 rfl ?_
      refine mg_14 C B dX10_today_74 ?_
      refine x_bipush (70 : Int32) C dX10_today_77 (by decide) ?_
      refine x_iload C dX10_today_79 4 rfl ?_
      refine x_iadd C dX10_today_81 ?_
      obtain ⟨h3, hf⟩ := pf_in hf
      refine ml_14 C B h3 dX10_today_82 ?_
      obtain ⟨h4, hf⟩ := pf_ch hf
      refine x_irem C h4 dX10_today_83 ?_
      refine x_if_ne (tgt := 144) C dX10_today_84 (by decide) (fun c5 => ?_) (fun c5 => ?_)
      · have hf := pf_f c5 hf
        refine x_inc (c := (1 : Int32)) (L' := [(0, .ref (mO M)), (1, .int x1), (2, .int x2), (3, .int x3), (4, .int (x4 + (1 : Int32)))]) C dX10_today_144 4 rfl (by decide) (Nat.le_of_ble_eq_true rfl) [1, 2, 3, 4, 0] rfl ?_
        refine x_goto (tgt := 54) C dX10_today_147 (by decide) ?_
        exact ih x1 x2 x3 (x4 + (1 : Int32)) _ hf
      · have hf := pf_t c5 hf
        refine x_aload_n C dX10_today_87 0 rfl ?_
        refine x_iload C dX10_today_88 4 rfl ?_
        refine x_aload_n C dX10_today_90 0 rfl ?_
        refine mg_14 C B dX10_today_91 ?_
        refine x_sipush (210 : Int32) C dX10_today_94 (by decide) ?_
        refine x_iload_n C dX10_today_97 1 rfl ?_
        refine x_iadd C dX10_today_98 ?_
        obtain ⟨h6, hf⟩ := pf_in hf
        refine ml_14 C B h6 dX10_today_99 ?_
        obtain ⟨r7, er7, hf⟩ := pf_b hf
        refine mc_comes C B dK (Nat.le_of_ble_eq_true rfl) er7 (Nat.le_of_ble_eq_true rfl) dX10_today_100 ?_
        refine x_if_eq (tgt := 144) C dX10_today_103 (by decide) (fun c8 => ?_) (fun c8 => ?_)
        · have hf := pf_t c8 hf
          refine x_inc (c := (1 : Int32)) (L' := [(0, .ref (mO M)), (1, .int x1), (2, .int x2), (3, .int x3), (4, .int (x4 + (1 : Int32)))]) C dX10_today_144 4 rfl (by decide) (Nat.le_of_ble_eq_true rfl) [1, 2, 3, 4, 0] rfl ?_
          refine x_goto (tgt := 54) C dX10_today_147 (by decide) ?_
          exact ih x1 x2 x3 (x4 + (1 : Int32)) _ hf
        · have hf := pf_f c8 hf
          refine x_iload_n C dX10_today_106 3 rfl ?_
          refine x_aload_n C dX10_today_107 0 rfl ?_
          refine x_iload C dX10_today_108 4 rfl ?_
          refine x_aload_n C dX10_today_110 0 rfl ?_
          refine mg_14 C B dX10_today_111 ?_
          refine x_sipush (200 : Int32) C dX10_today_114 (by decide) ?_
          refine mlc_14 200 C B (by decide +kernel) dX10_today_117 ?_
          refine x_iload_n C dX10_today_118 1 rfl ?_
          refine mc_has C B dK (Nat.le_of_ble_eq_true rfl) rfl (Nat.le_of_ble_eq_true rfl) dX10_today_119 ?_
          obtain ⟨r9, er9, hf⟩ := pf_b hf
          refine mc_worthOf C B dK (Nat.le_of_ble_eq_true rfl) er9 (Nat.le_of_ble_eq_true rfl) dX10_today_122 ?_
          refine x_aload_n C dX10_today_125 0 rfl ?_
          refine x_iload C dX10_today_126 4 rfl ?_
          refine x_aload_n C dX10_today_128 0 rfl ?_
          refine mg_14 C B dX10_today_129 ?_
          refine x_sipush (202 : Int32) C dX10_today_132 (by decide) ?_
          refine x_iload_n C dX10_today_135 1 rfl ?_
          refine x_iadd C dX10_today_136 ?_
          obtain ⟨h10, hf⟩ := pf_in hf
          refine ml_14 C B h10 dX10_today_137 ?_
          obtain ⟨r11, er11, hf⟩ := pf_b hf
          refine mc_chance C B dK (Nat.le_of_ble_eq_true rfl) er11 (Nat.le_of_ble_eq_true rfl) dX10_today_138 ?_
          refine x_imul C dX10_today_141 ?_
          refine x_iadd C dX10_today_142 ?_
          obtain ⟨v12, ev12, hf⟩ := pf_e hf
          refine x_topir ev12 ?_
          refine x_istore_n (L' := [(0, .ref (mO M)), (1, .int x1), (2, .int x2), (3, .int v12), (4, .int x4)]) C dX10_today_143 (Nat.le_of_ble_eq_true rfl) [1, 2, 3, 0, 4] rfl ?_
          refine x_inc (c := (1 : Int32)) (L' := [(0, .ref (mO M)), (1, .int x1), (2, .int x2), (3, .int v12), (4, .int (x4 + (1 : Int32)))]) C dX10_today_144 4 rfl (by decide) (Nat.le_of_ble_eq_true rfl) [1, 2, 3, 4, 0] rfl ?_
          refine x_goto (tgt := 54) C dX10_today_147 (by decide) ?_
          exact ih x1 x2 v12 (x4 + (1 : Int32)) _ hf
def f_today (n : Nat) (x1 : Int32) (x2 : Int32) (σ : MS) : Option (Int32 × MS) := ev (si σ 0 (0 : Int32)) fun s1 => if (f_isStatue s1 x1) = 0 then (ev (f_refuse s1) fun r3 => some (r3.1, r3.2)) else (if (f_isEvicted s1 x1) = 0 then (if (ga s1 14 198) = (400 : Int32) then (ev (f_refuse s1) fun r7 => some (r7.1, r7.2)) else (if (f_isIn x2 (0 : Int32) (1 : Int32)) = 0 then (ev (f_refuse s1) fun r9 => some (r9.1, r9.2)) else (f_today_54 n n x1 x2 (0 : Int32) (0 : Int32) s1))) else (ev (f_refuse s1) fun r5 => some (r5.1, r5.2)))
set_option maxHeartbeats 4000000 in
theorem w_today_E {K : KT} {M : MT} {r : Int32} {τ : MS} (n : Nat) (C : Kok K cX10_today 5 RX10) (B : MB K M) (hr : (kMe K).sig.returnType = some .int) (dK : kR K = rmD 3) (hQ : KQm K M (some (.int r)) τ) (x1 : Int32) (x2 : Int32) (σ : MS) (hf : f_today n x1 x2 σ = some (r, τ)) : XJ K 5 (Wm K M σ) 0 [(0, .ref (mO M)), (1, .int x1), (2, .int x2)] [] := by
  unfold f_today at hf
  refine x_aload_n C dX10_today_0 0 rfl ?_
  refine x_iconst (0 : Int32) C dX10_today_1 (by decide) ?_
  refine mp_0 C B dX10_today_2 ?_
  obtain ⟨s1, es1, hf⟩ := pf_e hf
  refine m_ren es1 ?_
  refine x_aload_n C dX10_today_5 0 rfl ?_
  refine x_iload_n C dX10_today_6 1 rfl ?_
  refine mc_isStatue C B dK (Nat.le_of_ble_eq_true rfl) rfl (Nat.le_of_ble_eq_true rfl) dX10_today_7 ?_
  refine x_if_eq (tgt := 44) C dX10_today_10 (by decide) (fun c2 => ?_) (fun c2 => ?_)
  · have hf := pf_t c2 hf
    refine x_aload_n C dX10_today_44 0 rfl ?_
    obtain ⟨r3, er3, hf⟩ := pf_e hf
    refine mc_refuse C B dK (Nat.le_of_ble_eq_true rfl) er3.symm (Nat.le_of_ble_eq_true rfl) dX10_today_45 ?_
    obtain ⟨rfl, rfl⟩ := Prod.mk.inj (Option.some.inj hf)
    exact m_iret C hr hQ dX10_today_48
  · have hf := pf_f c2 hf
    refine x_aload_n C dX10_today_13 0 rfl ?_
    refine x_iload_n C dX10_today_14 1 rfl ?_
    refine mc_isEvicted C B dK (Nat.le_of_ble_eq_true rfl) rfl (Nat.le_of_ble_eq_true rfl) dX10_today_15 ?_
    refine x_if_ne (tgt := 44) C dX10_today_18 (by decide) (fun c4 => ?_) (fun c4 => ?_)
    · have hf := pf_f c4 hf
      refine x_aload_n C dX10_today_44 0 rfl ?_
      obtain ⟨r5, er5, hf⟩ := pf_e hf
      refine mc_refuse C B dK (Nat.le_of_ble_eq_true rfl) er5.symm (Nat.le_of_ble_eq_true rfl) dX10_today_45 ?_
      obtain ⟨rfl, rfl⟩ := Prod.mk.inj (Option.some.inj hf)
      exact m_iret C hr hQ dX10_today_48
    · have hf := pf_t c4 hf
      refine x_aload_n C dX10_today_21 0 rfl ?_
      refine mg_14 C B dX10_today_22 ?_
      refine x_sipush (198 : Int32) C dX10_today_25 (by decide) ?_
      refine mlc_14 198 C B (by decide +kernel) dX10_today_28 ?_
      refine x_sipush (400 : Int32) C dX10_today_29 (by decide) ?_
      refine x_icmp_eq (tgt := 44) C dX10_today_32 (by decide) (fun c6 => ?_) (fun c6 => ?_)
      · have hf := pf_t c6 hf
        refine x_aload_n C dX10_today_44 0 rfl ?_
        obtain ⟨r7, er7, hf⟩ := pf_e hf
        refine mc_refuse C B dK (Nat.le_of_ble_eq_true rfl) er7.symm (Nat.le_of_ble_eq_true rfl) dX10_today_45 ?_
        obtain ⟨rfl, rfl⟩ := Prod.mk.inj (Option.some.inj hf)
        exact m_iret C hr hQ dX10_today_48
      · have hf := pf_f c6 hf
        refine x_iload_n C dX10_today_35 2 rfl ?_
        refine x_iconst (0 : Int32) C dX10_today_36 (by decide) ?_
        refine x_iconst (1 : Int32) C dX10_today_37 (by decide) ?_
        refine mc_isIn C B dK (Nat.le_of_ble_eq_true rfl) rfl (Nat.le_of_ble_eq_true rfl) dX10_today_38 ?_
        refine x_if_ne (tgt := 49) C dX10_today_41 (by decide) (fun c8 => ?_) (fun c8 => ?_)
        · have hf := pf_f c8 hf
          refine x_iconst (0 : Int32) C dX10_today_49 (by decide) ?_
          refine x_istore_n (L' := [(0, .ref (mO M)), (1, .int x1), (2, .int x2), (3, .int (0 : Int32))]) C dX10_today_50 (Nat.le_of_ble_eq_true rfl) [1, 2, 3, 0] rfl ?_
          refine x_iconst (0 : Int32) C dX10_today_51 (by decide) ?_
          refine x_istore (L' := [(0, .ref (mO M)), (1, .int x1), (2, .int x2), (3, .int (0 : Int32)), (4, .int (0 : Int32))]) C dX10_today_52 (Nat.le_of_ble_eq_true rfl) [1, 2, 3, 4, 0] rfl ?_
          exact w_today_54 n C B hr dK hQ n x1 x2 (0 : Int32) (0 : Int32) _ hf
        · have hf := pf_t c8 hf
          refine x_aload_n C dX10_today_44 0 rfl ?_
          obtain ⟨r9, er9, hf⟩ := pf_e hf
          refine mc_refuse C B dK (Nat.le_of_ble_eq_true rfl) er9.symm (Nat.le_of_ble_eq_true rfl) dX10_today_45 ?_
          obtain ⟨rfl, rfl⟩ := Prod.mk.inj (Option.some.inj hf)
          exact m_iret C hr hQ dX10_today_48
theorem met_today {M : MT} {v : (Int32 × MS)} {n : Nat} {σ : MS} {x1 : Int32} {x2 : Int32} {l : Launch} (hc : (mCl M)[mCi M]? = some (RX10, TX10, 61)) (hf : f_today n x1 x2 σ = some v) : Met l yX10_today (ws_ yX10_today cX10_today 5 (some .int)) (rmD 3) (va_Pc [.ref (mO M), .int x1, .int x2] (MU M σ)) (Qm M (some (.int v.1)) v.2) 0 0 (mAd M) :=
  m_met [.ref (mO M), .int x1, .int x2] (by decide) rfl (Nat.le_of_ble_eq_true rfl) hc (fun K hl hR hr C B hQ => w_today_E _ C B hr hR hQ _ _ _ hf)
def f_layPlacing_26 (n : Nat) (k18 : Int32 → Int32 → Int32 → MS → Option MS) : Nat → Int32 → Int32 → Int32 → Int32 → MS → Option MS
  | 0, _, _, _, _, _ => none
  | m + 1, x1, x2, x3, x4, σ => if (ga σ 14 0) ≤ x4 then (k18 x1 x2 (x3 + (1 : Int32)) σ) else (if inb ((202 : Int32) + x3) 532 = true then (f_yieldOf n σ x3 x4 (ga σ 14 (Int32.toNatClampNeg ((202 : Int32) + x3))) (f_has (ga σ 14 200) x3) (0 : Int32)).bind fun r3 => if inb ((6 : Int32) + x4) 532 = true then if inb (((8 : Int32) * x3) + x4) 64 = true then ev (sa σ 31 (Int32.toNatClampNeg (((8 : Int32) * x3) + x4)) (r3 - ((5040 : Int32) * (ga σ 14 (Int32.toNatClampNeg ((6 : Int32) + x4)))))) fun s6 => f_layPlacing_26 n k18 m x1 x2 x3 (x4 + (1 : Int32)) s6 else none else none else none)
set_option maxHeartbeats 4000000 in
theorem w_layPlacing_26 {K : KT} {M : MT} {τ : MS} (n : Nat) (k18 : Int32 → Int32 → Int32 → MS → Option MS) (C : Kok K cX10_layPlacing 8 RX10) (B : MB K M) (hr : (kMe K).sig.returnType = none) (dK : kR K = rmD 3) (hQ : KQm K M none τ)  (hk18 : ∀ (x1 : Int32) (x2 : Int32) (x3 : Int32) (σ : MS), k18 x1 x2 x3 σ = some τ → XJ K 8 (Wm K M σ) 18 [(0, .ref (mO M)), (1, .int x1), (2, .int x2), (3, .int x3)] []) : ∀ (m : Nat) (x1 : Int32) (x2 : Int32) (x3 : Int32) (x4 : Int32) (σ : MS) (hf : f_layPlacing_26 n k18 m x1 x2 x3 x4 σ = some τ), XJ K 8 (Wm K M σ) 26 [(0, .ref (mO M)), (1, .int x1), (2, .int x2), (3, .int x3), (4, .int x4)] [] := by
  intro m
  induction m with
  | zero => intro x1 x2 x3 x4 σ hf; cases hf
  | succ m ih =>
    intro x1 x2 x3 x4 σ hf
    rw [f_layPlacing_26] at hf
    refine x_iload C dX10_layPlacing_26 4 rfl ?_
    refine x_aload_n C dX10_layPlacing_28 0 rfl ?_
    refine mg_14 C B dX10_layPlacing_29 ?_
    refine x_iconst (0 : Int32) C dX10_layPlacing_32 (by decide) ?_
    refine mlc_14 0 C B (by decide +kernel) dX10_layPlacing_33 ?_
    refine x_icmp_ge (tgt := 100) C dX10_layPlacing_34 (by decide) (fun c1 => ?_) (fun c1 => ?_)
    · have hf := pf_t c1 hf
      refine x_inc (c := (1 : Int32)) (L' := [(0, .ref (mO M)), (1, .int x1), (2, .int x2), (3, .int (x3 + (1 : Int32)))]) C dX10_layPlacing_100 3 rfl (by decide) (Nat.le_of_ble_eq_true rfl) [1, 2, 3, 0] rfl ?_
      refine x_goto (tgt := 18) C dX10_layPlacing_103 (by decide) ?_
      exact hk18 x1 x2 (x3 + (1 : Int32)) _ hf
    · have hf := pf_f c1 hf
      refine x_aload_n C dX10_layPlacing_37 0 rfl ?_
      refine mg_31 C B dX10_layPlacing_38 ?_
      refine x_bipush (8 : Int32) C dX10_layPlacing_41 (by decide) ?_
      refine x_iload_n C dX10_layPlacing_43 3 rfl ?_
      refine x_imul C dX10_layPlacing_44 ?_
      refine x_iload C dX10_layPlacing_45 4 rfl ?_
      refine x_iadd C dX10_layPlacing_47 ?_
      refine x_aload_n C dX10_layPlacing_48 0 rfl ?_
      refine x_iload_n C dX10_layPlacing_49 3 rfl ?_
      refine x_iload C dX10_layPlacing_50 4 rfl ?_
      refine x_aload_n C dX10_layPlacing_52 0 rfl ?_
      refine mg_14 C B dX10_layPlacing_53 ?_
      refine x_sipush (202 : Int32) C dX10_layPlacing_56 (by decide) ?_
      refine x_iload_n C dX10_layPlacing_59 3 rfl ?_
      refine x_iadd C dX10_layPlacing_60 ?_
      obtain ⟨h2, hf⟩ := pf_in hf
      refine ml_14 C B h2 dX10_layPlacing_61 ?_
      refine x_aload_n C dX10_layPlacing_62 0 rfl ?_
      refine mg_14 C B dX10_layPlacing_63 ?_
      refine x_sipush (200 : Int32) C dX10_layPlacing_66 (by decide) ?_
      refine mlc_14 200 C B (by decide +kernel) dX10_layPlacing_69 ?_
      refine x_iload_n C dX10_layPlacing_70 3 rfl ?_
      refine mc_has C B dK (Nat.le_of_ble_eq_true rfl) rfl (Nat.le_of_ble_eq_true rfl) dX10_layPlacing_71 ?_
      refine x_iconst (0 : Int32) C dX10_layPlacing_74 (by decide) ?_
      obtain ⟨r3, er3, hf⟩ := pf_b hf
      refine mc_yieldOf C B dK (Nat.le_of_ble_eq_true rfl) er3 (Nat.le_of_ble_eq_true rfl) dX10_layPlacing_75 ?_
      refine x_sipush (5040 : Int32) C dX10_layPlacing_78 (by decide) ?_
      refine x_aload_n C dX10_layPlacing_81 0 rfl ?_
      refine mg_14 C B dX10_layPlacing_82 ?_
      refine x_bipush (6 : Int32) C dX10_layPlacing_85 (by decide) ?_
      refine x_iload C dX10_layPlacing_87 4 rfl ?_
      refine x_iadd C dX10_layPlacing_89 ?_
      obtain ⟨h4, hf⟩ := pf_in hf
      refine ml_14 C B h4 dX10_layPlacing_90 ?_
      refine x_imul C dX10_layPlacing_91 ?_
      refine x_isub C dX10_layPlacing_92 ?_
      obtain ⟨h5, hf⟩ := pf_in hf
      refine ms_31 C B h5 dX10_layPlacing_93 ?_
      obtain ⟨s6, es6, hf⟩ := pf_e hf
      refine m_ren es6 ?_
      refine x_inc (c := (1 : Int32)) (L' := [(0, .ref (mO M)), (1, .int x1), (2, .int x2), (3, .int x3), (4, .int (x4 + (1 : Int32)))]) C dX10_layPlacing_94 4 rfl (by decide) (Nat.le_of_ble_eq_true rfl) [1, 2, 3, 4, 0] rfl ?_
      refine x_goto (tgt := 26) C dX10_layPlacing_97 (by decide) ?_
      exact ih x1 x2 x3 (x4 + (1 : Int32)) _ hf
def f_layPlacing_267 (n : Nat) (k136 : Int32 → Int32 → Int32 → MS → Option MS) (k143 : Int32 → Int32 → Int32 → Int32 → MS → Option MS) (x1 : Int32) (x2 : Int32) (x3 : Int32) (x4 : Int32) (x5 : Int32) (σ : MS) : Option MS := if inb (((256 : Int32) * x3) + x4) 2304 = true then ev (sa σ 30 (Int32.toNatClampNeg (((256 : Int32) * x3) + x4)) x5) fun s2 => k143 x1 x2 x3 (x4 + (1 : Int32)) s2 else none
set_option maxHeartbeats 4000000 in
theorem w_layPlacing_267 {K : KT} {M : MT} {τ : MS} (n : Nat) (k136 : Int32 → Int32 → Int32 → MS → Option MS) (k143 : Int32 → Int32 → Int32 → Int32 → MS → Option MS) (C : Kok K cX10_layPlacing 8 RX10) (B : MB K M) (hr : (kMe K).sig.returnType = none) (dK : kR K = rmD 3) (hQ : KQm K M none τ)  (hk136 : ∀ (x1 : Int32) (x2 : Int32) (x3 : Int32) (σ : MS), k136 x1 x2 x3 σ = some τ → XJ K 8 (Wm K M σ) 136 [(0, .ref (mO M)), (1, .int x1), (2, .int x2), (3, .int x3)] []) (hk143 : ∀ (x1 : Int32) (x2 : Int32) (x3 : Int32) (x4 : Int32) (σ : MS), k143 x1 x2 x3 x4 σ = some τ → XJ K 8 (Wm K M σ) 143 [(0, .ref (mO M)), (1, .int x1), (2, .int x2), (3, .int x3), (4, .int x4)] []) (x1 : Int32) (x2 : Int32) (x3 : Int32) (x4 : Int32) (x5 : Int32) (σ : MS) (hf : f_layPlacing_267 n k136 k143 x1 x2 x3 x4 x5 σ = some τ) : XJ K 8 (Wm K M σ) 267 [(0, .ref (mO M)), (1, .int x1), (2, .int x2), (3, .int x3), (4, .int x4), (5, .int x5)] [] := by
  unfold f_layPlacing_267 at hf
  refine x_aload_n C dX10_layPlacing_267 0 rfl ?_
  refine mg_30 C B dX10_layPlacing_268 ?_
  refine x_sipush (256 : Int32) C dX10_layPlacing_271 (by decide) ?_
  refine x_iload_n C dX10_layPlacing_274 3 rfl ?_
  refine x_imul C dX10_layPlacing_275 ?_
  refine x_iload C dX10_layPlacing_276 4 rfl ?_
  refine x_iadd C dX10_layPlacing_278 ?_
  refine x_iload C dX10_layPlacing_279 5 rfl ?_
  obtain ⟨h1, hf⟩ := pf_in hf
  refine ms_30 C B h1 dX10_layPlacing_281 ?_
  obtain ⟨s2, es2, hf⟩ := pf_e hf
  refine m_ren es2 ?_
  refine x_inc (c := (1 : Int32)) (L' := [(0, .ref (mO M)), (1, .int x1), (2, .int x2), (3, .int x3), (4, .int (x4 + (1 : Int32)))]) C dX10_layPlacing_282 4 rfl (by decide) (Nat.le_of_ble_eq_true rfl) [1, 2, 3, 4, 0] rfl ?_
  refine x_goto (tgt := 143) C dX10_layPlacing_285 (by decide) ?_
  exact hk143 x1 x2 x3 (x4 + (1 : Int32)) _ hf
def f_layPlacing_183 (n : Nat) (k136 : Int32 → Int32 → Int32 → MS → Option MS) (k143 : Int32 → Int32 → Int32 → Int32 → MS → Option MS) : Nat → Int32 → Int32 → Int32 → Int32 → Int32 → Int32 → MS → Option MS
  | 0, _, _, _, _, _, _, _ => none
  | m + 1, x1, x2, x3, x4, x5, x6, σ => if (ga σ 14 0) ≤ x6 then (f_layPlacing_267 n k136 k143 x1 x2 x3 x4 x5 σ) else (if (f_isEvicted σ x3) = 0 then (if (f_has x4 x6) = 0 then (if inb (((8 : Int32) * x3) + x6) 64 = true then if inb (((256 : Int32) * (x3 + (1 : Int32))) + (x4 ||| ((1 : Int32) <<< (x6 &&& 31)))) 2304 = true then ev ((ga σ 31 (Int32.toNatClampNeg (((8 : Int32) * x3) + x6))) + (ga σ 30 (Int32.toNatClampNeg (((256 : Int32) * (x3 + (1 : Int32))) + (x4 ||| ((1 : Int32) <<< (x6 &&& 31))))))) fun v6 => if v6 ≤ x5 then (f_layPlacing_183 n k136 k143 m x1 x2 x3 x4 x5 (x6 + (1 : Int32)) σ) else (f_layPlacing_183 n k136 k143 m x1 x2 x3 x4 v6 (x6 + (1 : Int32)) σ) else none else none) else (f_layPlacing_183 n k136 k143 m x1 x2 x3 x4 x5 (x6 + (1 : Int32)) σ)) else (f_layPlacing_267 n k136 k143 x1 x2 x3 x4 x5 σ))
set_option maxHeartbeats 4000000 in
theorem w_layPlacing_183 {K : KT} {M : MT} {τ : MS} (n : Nat) (k136 : Int32 → Int32 → Int32 → MS → Option MS) (k143 : Int32 → Int32 → Int32 → Int32 → MS → Option MS) (C : Kok K cX10_layPlacing 8 RX10) (B : MB K M) (hr : (kMe K).sig.returnType = none) (dK : kR K = rmD 3) (hQ : KQm K M none τ)  (hk136 : ∀ (x1 : Int32) (x2 : Int32) (x3 : Int32) (σ : MS), k136 x1 x2 x3 σ = some τ → XJ K 8 (Wm K M σ) 136 [(0, .ref (mO M)), (1, .int x1), (2, .int x2), (3, .int x3)] []) (hk143 : ∀ (x1 : Int32) (x2 : Int32) (x3 : Int32) (x4 : Int32) (σ : MS), k143 x1 x2 x3 x4 σ = some τ → XJ K 8 (Wm K M σ) 143 [(0, .ref (mO M)), (1, .int x1), (2, .int x2), (3, .int x3), (4, .int x4)] []) : ∀ (m : Nat) (x1 : Int32) (x2 : Int32) (x3 : Int32) (x4 : Int32) (x5 : Int32) (x6 : Int32) (σ : MS) (hf : f_layPlacing_183 n k136 k143 m x1 x2 x3 x4 x5 x6 σ = some τ), XJ K 8 (Wm K M σ) 183 [(0, .ref (mO M)), (1, .int x1), (2, .int x2), (3, .int x3), (4, .int x4), (5, .int x5), (6, .int x6)] [] := by
  intro m
  induction m with
  | zero => intro x1 x2 x3 x4 x5 x6 σ hf; cases hf
  | succ m ih =>
    intro x1 x2 x3 x4 x5 x6 σ hf
    rw [f_layPlacing_183] at hf
    refine x_iload C dX10_layPlacing_183 6 rfl ?_
    refine x_aload_n C dX10_layPlacing_185 0 rfl ?_
    refine mg_14 C B dX10_layPlacing_186 ?_
    refine x_iconst (0 : Int32) C dX10_layPlacing_189 (by decide) ?_
    refine mlc_14 0 C B (by decide +kernel) dX10_layPlacing_190 ?_
    refine x_icmp_ge (tgt := 267) C dX10_layPlacing_191 (by decide) (fun c1 => ?_) (fun c1 => ?_)
    · have hf := pf_t c1 hf
      refine x_sub [0, 1, 2, 3, 4, 5] (L' := [(0, .ref (mO M)), (1, .int x1), (2, .int x2), (3, .int x3), (4, .int x4), (5, .int x5)]) rfl ?_
      exact w_layPlacing_267 n _ _ C B hr dK hQ hk136 hk143 x1 x2 x3 x4 x5 _ hf
    · have hf := pf_f c1 hf
      refine x_aload_n C dX10_layPlacing_194 0 rfl ?_
      refine x_iload_n C dX10_layPlacing_195 3 rfl ?_
      refine mc_isEvicted C B dK (Nat.le_of_ble_eq_true rfl) rfl (Nat.le_of_ble_eq_true rfl) dX10_layPlacing_196 ?_
      refine x_if_ne (tgt := 267) C dX10_layPlacing_199 (by decide) (fun c2 => ?_) (fun c2 => ?_)
      · have hf := pf_f c2 hf
        refine x_sub [0, 1, 2, 3, 4, 5] (L' := [(0, .ref (mO M)), (1, .int x1), (2, .int x2), (3, .int x3), (4, .int x4), (5, .int x5)]) rfl ?_
        exact w_layPlacing_267 n _ _ C B hr dK hQ hk136 hk143 x1 x2 x3 x4 x5 _ hf
      · have hf := pf_t c2 hf
        refine x_iload C dX10_layPlacing_202 4 rfl ?_
        refine x_iload C dX10_layPlacing_204 6 rfl ?_
        refine mc_has C B dK (Nat.le_of_ble_eq_true rfl) rfl (Nat.le_of_ble_eq_true rfl) dX10_layPlacing_206 ?_
        refine x_if_eq (tgt := 215) C dX10_layPlacing_209 (by decide) (fun c3 => ?_) (fun c3 => ?_)
        · have hf := pf_t c3 hf
          refine x_aload_n C dX10_layPlacing_215 0 rfl ?_
          refine mg_31 C B dX10_layPlacing_216 ?_
          refine x_bipush (8 : Int32) C dX10_layPlacing_219 (by decide) ?_
          refine x_iload_n C dX10_layPlacing_221 3 rfl ?_
          refine x_imul C dX10_layPlacing_222 ?_
          refine x_iload C dX10_layPlacing_223 6 rfl ?_
          refine x_iadd C dX10_layPlacing_225 ?_
          obtain ⟨h4, hf⟩ := pf_in hf
          refine ml_31 C B h4 dX10_layPlacing_226 ?_
          refine x_aload_n C dX10_layPlacing_227 0 rfl ?_
          refine mg_30 C B dX10_layPlacing_228 ?_
          refine x_sipush (256 : Int32) C dX10_layPlacing_231 (by decide) ?_
          refine x_iload_n C dX10_layPlacing_234 3 rfl ?_
          refine x_iconst (1 : Int32) C dX10_layPlacing_235 (by decide) ?_
          refine x_iadd C dX10_layPlacing_236 ?_
          refine x_imul C dX10_layPlacing_237 ?_
          refine x_iload C dX10_layPlacing_238 4 rfl ?_
          refine x_iconst (1 : Int32) C dX10_layPlacing_240 (by decide) ?_
          refine x_iload C dX10_layPlacing_241 6 rfl ?_
          refine x_ishl C dX10_layPlacing_243 ?_
          refine x_ior C dX10_layPlacing_244 ?_
          refine x_iadd C dX10_layPlacing_245 ?_
          obtain ⟨h5, hf⟩ := pf_in hf
          refine ml_30 C B h5 dX10_layPlacing_246 ?_
          refine x_iadd C dX10_layPlacing_247 ?_
          obtain ⟨v6, ev6, hf⟩ := pf_e hf
          refine x_topir ev6 ?_
          refine x_istore (L' := [(0, .ref (mO M)), (1, .int x1), (2, .int x2), (3, .int x3), (4, .int x4), (5, .int x5), (6, .int x6), (7, .int v6)]) C dX10_layPlacing_248 (Nat.le_of_ble_eq_true rfl) [1, 2, 3, 4, 5, 6, 7, 0] rfl ?_
          refine x_iload C dX10_layPlacing_250 7 rfl ?_
          refine x_iload C dX10_layPlacing_252 5 rfl ?_
          refine x_icmp_le (tgt := 261) C dX10_layPlacing_254 (by decide) (fun c7 => ?_) (fun c7 => ?_)
          · have hf := pf_t c7 hf
            refine x_inc (c := (1 : Int32)) (L' := [(0, .ref (mO M)), (1, .int x1), (2, .int x2), (3, .int x3), (4, .int x4), (5, .int x5), (6, .int (x6 + (1 : Int32)))]) C dX10_layPlacing_261 6 rfl (by decide) (Nat.le_of_ble_eq_true rfl) [1, 2, 3, 4, 5, 6, 0] rfl ?_
            refine x_goto (tgt := 183) C dX10_layPlacing_264 (by decide) ?_
            exact ih x1 x2 x3 x4 x5 (x6 + (1 : Int32)) _ hf
          · have hf := pf_f c7 hf
            refine x_iload C dX10_layPlacing_257 7 rfl ?_
            refine x_istore (L' := [(0, .ref (mO M)), (1, .int x1), (2, .int x2), (3, .int x3), (4, .int x4), (5, .int v6), (6, .int x6)]) C dX10_layPlacing_259 (Nat.le_of_ble_eq_true rfl) [1, 2, 3, 4, 5, 0, 6] rfl ?_
            refine x_inc (c := (1 : Int32)) (L' := [(0, .ref (mO M)), (1, .int x1), (2, .int x2), (3, .int x3), (4, .int x4), (5, .int v6), (6, .int (x6 + (1 : Int32)))]) C dX10_layPlacing_261 6 rfl (by decide) (Nat.le_of_ble_eq_true rfl) [1, 2, 3, 4, 5, 6, 0] rfl ?_
            refine x_goto (tgt := 183) C dX10_layPlacing_264 (by decide) ?_
            exact ih x1 x2 x3 x4 v6 (x6 + (1 : Int32)) _ hf
        · have hf := pf_f c3 hf
          refine x_goto (tgt := 261) C dX10_layPlacing_212 (by decide) ?_
          refine x_inc (c := (1 : Int32)) (L' := [(0, .ref (mO M)), (1, .int x1), (2, .int x2), (3, .int x3), (4, .int x4), (5, .int x5), (6, .int (x6 + (1 : Int32)))]) C dX10_layPlacing_261 6 rfl (by decide) (Nat.le_of_ble_eq_true rfl) [1, 2, 3, 4, 5, 6, 0] rfl ?_
          refine x_goto (tgt := 183) C dX10_layPlacing_264 (by decide) ?_
          exact ih x1 x2 x3 x4 x5 (x6 + (1 : Int32)) _ hf
def f_layPlacing_143 (n : Nat) (k136 : Int32 → Int32 → Int32 → MS → Option MS) : Nat → Int32 → Int32 → Int32 → Int32 → MS → Option MS
  | 0, _, _, _, _, _ => none
  | m + 1, x1, x2, x3, x4, σ => if x2 ≤ x4 then (k136 x1 x2 (x3 + (-1 : Int32)) σ) else (if (f_isEvicted σ x3) = 0 then (f_layPlacing_183 n k136 (f_layPlacing_143 n k136 m) n x1 x2 x3 x4 (-100000000 : Int32) (0 : Int32) σ) else (if inb (((256 : Int32) * (x3 + (1 : Int32))) + x4) 2304 = true then ev (ga σ 30 (Int32.toNatClampNeg (((256 : Int32) * (x3 + (1 : Int32))) + x4))) fun v4 => f_layPlacing_183 n k136 (f_layPlacing_143 n k136 m) n x1 x2 x3 x4 v4 (0 : Int32) σ else none))
set_option maxHeartbeats 4000000 in
theorem w_layPlacing_143 {K : KT} {M : MT} {τ : MS} (n : Nat) (k136 : Int32 → Int32 → Int32 → MS → Option MS) (C : Kok K cX10_layPlacing 8 RX10) (B : MB K M) (hr : (kMe K).sig.returnType = none) (dK : kR K = rmD 3) (hQ : KQm K M none τ)  (hk136 : ∀ (x1 : Int32) (x2 : Int32) (x3 : Int32) (σ : MS), k136 x1 x2 x3 σ = some τ → XJ K 8 (Wm K M σ) 136 [(0, .ref (mO M)), (1, .int x1), (2, .int x2), (3, .int x3)] []) : ∀ (m : Nat) (x1 : Int32) (x2 : Int32) (x3 : Int32) (x4 : Int32) (σ : MS) (hf : f_layPlacing_143 n k136 m x1 x2 x3 x4 σ = some τ), XJ K 8 (Wm K M σ) 143 [(0, .ref (mO M)), (1, .int x1), (2, .int x2), (3, .int x3), (4, .int x4)] [] := by
  intro m
  induction m with
  | zero => intro x1 x2 x3 x4 σ hf; cases hf
  | succ m ih =>
    intro x1 x2 x3 x4 σ hf
    rw [f_layPlacing_143] at hf
    refine x_iload C dX10_layPlacing_143 4 rfl ?_
    refine x_iload_n C dX10_layPlacing_145 2 rfl ?_
    refine x_icmp_ge (tgt := 288) C dX10_layPlacing_146 (by decide) (fun c1 => ?_) (fun c1 => ?_)
    · have hf := pf_t c1 hf
      refine x_inc (c := (-1 : Int32)) (L' := [(0, .ref (mO M)), (1, .int x1), (2, .int x2), (3, .int (x3 + (-1 : Int32)))]) C dX10_layPlacing_288 3 rfl (by decide) (Nat.le_of_ble_eq_true rfl) [1, 2, 3, 0] rfl ?_
      refine x_goto (tgt := 136) C dX10_layPlacing_291 (by decide) ?_
      exact hk136 x1 x2 (x3 + (-1 : Int32)) _ hf
    · have hf := pf_f c1 hf
      refine x_aload_n C dX10_layPlacing_149 0 rfl ?_
      refine x_iload_n C dX10_layPlacing_150 3 rfl ?_
      refine mc_isEvicted C B dK (Nat.le_of_ble_eq_true rfl) rfl (Nat.le_of_ble_eq_true rfl) dX10_layPlacing_151 ?_
      refine x_if_eq (tgt := 175) C dX10_layPlacing_154 (by decide) (fun c2 => ?_) (fun c2 => ?_)
      · have hf := pf_t c2 hf
        refine x_ldcw C q2297 dX10_layPlacing_175 ?_
        refine x_istore (L' := [(0, .ref (mO M)), (1, .int x1), (2, .int x2), (3, .int x3), (4, .int x4), (5, .int (-100000000 : Int32))]) C dX10_layPlacing_178 (Nat.le_of_ble_eq_true rfl) [1, 2, 3, 4, 5, 0] rfl ?_
        refine x_iconst (0 : Int32) C dX10_layPlacing_180 (by decide) ?_
        refine x_istore (L' := [(0, .ref (mO M)), (1, .int x1), (2, .int x2), (3, .int x3), (4, .int x4), (5, .int (-100000000 : Int32)), (6, .int (0 : Int32))]) C dX10_layPlacing_181 (Nat.le_of_ble_eq_true rfl) [1, 2, 3, 4, 5, 6, 0] rfl ?_
        exact w_layPlacing_183 n _ _ C B hr dK hQ hk136 ih n x1 x2 x3 x4 (-100000000 : Int32) (0 : Int32) _ hf
      · have hf := pf_f c2 hf
        refine x_aload_n C dX10_layPlacing_157 0 rfl ?_
        refine mg_30 C B dX10_layPlacing_158 ?_
        refine x_sipush (256 : Int32) C dX10_layPlacing_161 (by decide) ?_
        refine x_iload_n C dX10_layPlacing_164 3 rfl ?_
        refine x_iconst (1 : Int32) C dX10_layPlacing_165 (by decide) ?_
        refine x_iadd C dX10_layPlacing_166 ?_
        refine x_imul C dX10_layPlacing_167 ?_
        refine x_iload C dX10_layPlacing_168 4 rfl ?_
        refine x_iadd C dX10_layPlacing_170 ?_
        obtain ⟨h3, hf⟩ := pf_in hf
        refine ml_30 C B h3 dX10_layPlacing_171 ?_
        refine x_goto (tgt := 178) C dX10_layPlacing_172 (by decide) ?_
        obtain ⟨v4, ev4, hf⟩ := pf_e hf
        refine x_topir ev4 ?_
        refine x_istore (L' := [(0, .ref (mO M)), (1, .int x1), (2, .int x2), (3, .int x3), (4, .int x4), (5, .int v4)]) C dX10_layPlacing_178 (Nat.le_of_ble_eq_true rfl) [1, 2, 3, 4, 5, 0] rfl ?_
        refine x_iconst (0 : Int32) C dX10_layPlacing_180 (by decide) ?_
        refine x_istore (L' := [(0, .ref (mO M)), (1, .int x1), (2, .int x2), (3, .int x3), (4, .int x4), (5, .int v4), (6, .int (0 : Int32))]) C dX10_layPlacing_181 (Nat.le_of_ble_eq_true rfl) [1, 2, 3, 4, 5, 6, 0] rfl ?_
        exact w_layPlacing_183 n _ _ C B hr dK hQ hk136 ih n x1 x2 x3 x4 v4 (0 : Int32) _ hf
def f_layPlacing_411 (n : Nat) (k299 : Int32 → Int32 → Int32 → MS → Option MS) (x1 : Int32) (x3 : Int32) (x4 : Int32) (σ : MS) : Option MS := if inb x4 8 = true then if (ga σ 32 (Int32.toNatClampNeg x4)) = (-1 : Int32) then (k299 x1 x3 (x4 + (1 : Int32)) σ) else (if inb x4 8 = true then ev (x3 ||| ((1 : Int32) <<< ((ga σ 32 (Int32.toNatClampNeg x4)) &&& 31))) fun v4 => k299 x1 v4 (x4 + (1 : Int32)) σ else none) else none
set_option maxHeartbeats 4000000 in
theorem w_layPlacing_411 {K : KT} {M : MT} {τ : MS} (n : Nat) (k299 : Int32 → Int32 → Int32 → MS → Option MS) (C : Kok K cX10_layPlacing 8 RX10) (B : MB K M) (hr : (kMe K).sig.returnType = none) (dK : kR K = rmD 3) (hQ : KQm K M none τ)  (hk299 : ∀ (x1 : Int32) (x3 : Int32) (x4 : Int32) (σ : MS), k299 x1 x3 x4 σ = some τ → XJ K 8 (Wm K M σ) 299 [(0, .ref (mO M)), (1, .int x1), (3, .int x3), (4, .int x4)] []) (x1 : Int32) (x3 : Int32) (x4 : Int32) (σ : MS) (hf : f_layPlacing_411 n k299 x1 x3 x4 σ = some τ) : XJ K 8 (Wm K M σ) 411 [(0, .ref (mO M)), (1, .int x1), (3, .int x3), (4, .int x4)] [] := by
  unfold f_layPlacing_411 at hf
  refine x_aload_n C dX10_layPlacing_411 0 rfl ?_
  refine mg_32 C B dX10_layPlacing_412 ?_
  refine x_iload C dX10_layPlacing_415 3 rfl ?_
  obtain ⟨h1, hf⟩ := pf_in hf
  refine ml_32 C B h1 dX10_layPlacing_417 ?_
  refine x_iconst (-1 : Int32) C dX10_layPlacing_418 (by decide) ?_
  refine x_icmp_eq (tgt := 434) C dX10_layPlacing_419 (by decide) (fun c2 => ?_) (fun c2 => ?_)
  · have hf := pf_t c2 hf
    refine x_inc (c := (1 : Int32)) (L' := [(0, .ref (mO M)), (1, .int x1), (3, .int x3), (4, .int (x4 + (1 : Int32)))]) C dX10_layPlacing_434 3 rfl (by decide) (Nat.le_of_ble_eq_true rfl) [1, 2, 3, 0] rfl ?_
    refine x_goto (tgt := 299) C dX10_layPlacing_437 (by decide) ?_
    exact hk299 x1 x3 (x4 + (1 : Int32)) _ hf
  · have hf := pf_f c2 hf
    refine x_iload_n C dX10_layPlacing_422 2 rfl ?_
    refine x_iconst (1 : Int32) C dX10_layPlacing_423 (by decide) ?_
    refine x_aload_n C dX10_layPlacing_424 0 rfl ?_
    refine mg_32 C B dX10_layPlacing_425 ?_
    refine x_iload C dX10_layPlacing_428 3 rfl ?_
    obtain ⟨h3, hf⟩ := pf_in hf
    refine ml_32 C B h3 dX10_layPlacing_430 ?_
    refine x_ishl C dX10_layPlacing_431 ?_
    refine x_ior C dX10_layPlacing_432 ?_
    obtain ⟨v4, ev4, hf⟩ := pf_e hf
    refine x_topir ev4 ?_
    refine x_istore_n (L' := [(0, .ref (mO M)), (1, .int x1), (3, .int v4), (4, .int x4)]) C dX10_layPlacing_433 (Nat.le_of_ble_eq_true rfl) [1, 2, 0, 3] rfl ?_
    refine x_inc (c := (1 : Int32)) (L' := [(0, .ref (mO M)), (1, .int x1), (3, .int v4), (4, .int (x4 + (1 : Int32)))]) C dX10_layPlacing_434 3 rfl (by decide) (Nat.le_of_ble_eq_true rfl) [1, 2, 3, 0] rfl ?_
    refine x_goto (tgt := 299) C dX10_layPlacing_437 (by decide) ?_
    exact hk299 x1 v4 (x4 + (1 : Int32)) _ hf
def f_layPlacing_323 (n : Nat) (k299 : Int32 → Int32 → Int32 → MS → Option MS) : Nat → Int32 → Int32 → Int32 → Int32 → MS → Option MS
  | 0, _, _, _, _, _ => none
  | m + 1, x1, x3, x4, x5, σ => if x5 < 0 then (f_layPlacing_411 n k299 x1 x3 x4 σ) else (if (f_isEvicted σ x4) = 0 then (if (f_has x3 x5) = 0 then (if inb (((8 : Int32) * x4) + x5) 64 = true then if inb (((256 : Int32) * (x4 + (1 : Int32))) + (x3 ||| ((1 : Int32) <<< (x5 &&& 31)))) 2304 = true then if inb (((256 : Int32) * x4) + x3) 2304 = true then if ((ga σ 31 (Int32.toNatClampNeg (((8 : Int32) * x4) + x5))) + (ga σ 30 (Int32.toNatClampNeg (((256 : Int32) * (x4 + (1 : Int32))) + (x3 ||| ((1 : Int32) <<< (x5 &&& 31))))))) = (ga σ 30 (Int32.toNatClampNeg (((256 : Int32) * x4) + x3))) then (if inb x4 8 = true then ev (sa σ 32 (Int32.toNatClampNeg x4) x5) fun s9 => f_layPlacing_323 n k299 m x1 x3 x4 (x5 + (-1 : Int32)) s9 else none) else (f_layPlacing_323 n k299 m x1 x3 x4 (x5 + (-1 : Int32)) σ) else none else none else none) else (f_layPlacing_323 n k299 m x1 x3 x4 (x5 + (-1 : Int32)) σ)) else (f_layPlacing_411 n k299 x1 x3 x4 σ))
set_option maxHeartbeats 4000000 in
theorem w_layPlacing_323 {K : KT} {M : MT} {τ : MS} (n : Nat) (k299 : Int32 → Int32 → Int32 → MS → Option MS) (C : Kok K cX10_layPlacing 8 RX10) (B : MB K M) (hr : (kMe K).sig.returnType = none) (dK : kR K = rmD 3) (hQ : KQm K M none τ)  (hk299 : ∀ (x1 : Int32) (x3 : Int32) (x4 : Int32) (σ : MS), k299 x1 x3 x4 σ = some τ → XJ K 8 (Wm K M σ) 299 [(0, .ref (mO M)), (1, .int x1), (3, .int x3), (4, .int x4)] []) : ∀ (m : Nat) (x1 : Int32) (x3 : Int32) (x4 : Int32) (x5 : Int32) (σ : MS) (hf : f_layPlacing_323 n k299 m x1 x3 x4 x5 σ = some τ), XJ K 8 (Wm K M σ) 323 [(0, .ref (mO M)), (1, .int x1), (3, .int x3), (4, .int x4), (5, .int x5)] [] := by
  intro m
  induction m with
  | zero => intro x1 x3 x4 x5 σ hf; cases hf
  | succ m ih =>
    intro x1 x3 x4 x5 σ hf
    rw [f_layPlacing_323] at hf
    refine x_iload C dX10_layPlacing_323 4 rfl ?_
    refine x_if_lt (tgt := 411) C dX10_layPlacing_325 (by decide) (fun c1 => ?_) (fun c1 => ?_)
    · have hf := pf_t c1 hf
      refine x_sub [0, 1, 2, 3] (L' := [(0, .ref (mO M)), (1, .int x1), (3, .int x3), (4, .int x4)]) rfl ?_
      exact w_layPlacing_411 n _ C B hr dK hQ hk299 x1 x3 x4 _ hf
    · have hf := pf_f c1 hf
      refine x_aload_n C dX10_layPlacing_328 0 rfl ?_
      refine x_iload C dX10_layPlacing_329 3 rfl ?_
      refine mc_isEvicted C B dK (Nat.le_of_ble_eq_true rfl) rfl (Nat.le_of_ble_eq_true rfl) dX10_layPlacing_331 ?_
      refine x_if_ne (tgt := 411) C dX10_layPlacing_334 (by decide) (fun c2 => ?_) (fun c2 => ?_)
      · have hf := pf_f c2 hf
        refine x_sub [0, 1, 2, 3] (L' := [(0, .ref (mO M)), (1, .int x1), (3, .int x3), (4, .int x4)]) rfl ?_
        exact w_layPlacing_411 n _ C B hr dK hQ hk299 x1 x3 x4 _ hf
      · have hf := pf_t c2 hf
        refine x_iload_n C dX10_layPlacing_337 2 rfl ?_
        refine x_iload C dX10_layPlacing_338 4 rfl ?_
        refine mc_has C B dK (Nat.le_of_ble_eq_true rfl) rfl (Nat.le_of_ble_eq_true rfl) dX10_layPlacing_340 ?_
        refine x_if_ne (tgt := 405) C dX10_layPlacing_343 (by decide) (fun c3 => ?_) (fun c3 => ?_)
        · have hf := pf_f c3 hf
          refine x_inc (c := (-1 : Int32)) (L' := [(0, .ref (mO M)), (1, .int x1), (3, .int x3), (4, .int x4), (5, .int (x5 + (-1 : Int32)))]) C dX10_layPlacing_405 4 rfl (by decide) (Nat.le_of_ble_eq_true rfl) [1, 2, 3, 4, 0] rfl ?_
          refine x_goto (tgt := 323) C dX10_layPlacing_408 (by decide) ?_
          exact ih x1 x3 x4 (x5 + (-1 : Int32)) _ hf
        · have hf := pf_t c3 hf
          refine x_aload_n C dX10_layPlacing_346 0 rfl ?_
          refine mg_31 C B dX10_layPlacing_347 ?_
          refine x_bipush (8 : Int32) C dX10_layPlacing_350 (by decide) ?_
          refine x_iload C dX10_layPlacing_352 3 rfl ?_
          refine x_imul C dX10_layPlacing_354 ?_
          refine x_iload C dX10_layPlacing_355 4 rfl ?_
          refine x_iadd C dX10_layPlacing_357 ?_
          obtain ⟨h4, hf⟩ := pf_in hf
          refine ml_31 C B h4 dX10_layPlacing_358 ?_
          refine x_aload_n C dX10_layPlacing_359 0 rfl ?_
          refine mg_30 C B dX10_layPlacing_360 ?_
          refine x_sipush (256 : Int32) C dX10_layPlacing_363 (by decide) ?_
          refine x_iload C dX10_layPlacing_366 3 rfl ?_
          refine x_iconst (1 : Int32) C dX10_layPlacing_368 (by decide) ?_
          refine x_iadd C dX10_layPlacing_369 ?_
          refine x_imul C dX10_layPlacing_370 ?_
          refine x_iload_n C dX10_layPlacing_371 2 rfl ?_
          refine x_iconst (1 : Int32) C dX10_layPlacing_372 (by decide) ?_
          refine x_iload C dX10_layPlacing_373 4 rfl ?_
          refine x_ishl C dX10_layPlacing_375 ?_
          refine x_ior C dX10_layPlacing_376 ?_
          refine x_iadd C dX10_layPlacing_377 ?_
          obtain ⟨h5, hf⟩ := pf_in hf
          refine ml_30 C B h5 dX10_layPlacing_378 ?_
          refine x_iadd C dX10_layPlacing_379 ?_
          refine x_aload_n C dX10_layPlacing_380 0 rfl ?_
          refine mg_30 C B dX10_layPlacing_381 ?_
          refine x_sipush (256 : Int32) C dX10_layPlacing_384 (by decide) ?_
          refine x_iload C dX10_layPlacing_387 3 rfl ?_
          refine x_imul C dX10_layPlacing_389 ?_
          refine x_iload_n C dX10_layPlacing_390 2 rfl ?_
          refine x_iadd C dX10_layPlacing_391 ?_
          obtain ⟨h6, hf⟩ := pf_in hf
          refine ml_30 C B h6 dX10_layPlacing_392 ?_
          refine x_icmp_ne (tgt := 405) C dX10_layPlacing_393 (by decide) (fun c7 => ?_) (fun c7 => ?_)
          · have hf := pf_f c7 hf
            refine x_inc (c := (-1 : Int32)) (L' := [(0, .ref (mO M)), (1, .int x1), (3, .int x3), (4, .int x4), (5, .int (x5 + (-1 : Int32)))]) C dX10_layPlacing_405 4 rfl (by decide) (Nat.le_of_ble_eq_true rfl) [1, 2, 3, 4, 0] rfl ?_
            refine x_goto (tgt := 323) C dX10_layPlacing_408 (by decide) ?_
            exact ih x1 x3 x4 (x5 + (-1 : Int32)) _ hf
          · have hf := pf_t c7 hf
            refine x_aload_n C dX10_layPlacing_396 0 rfl ?_
            refine mg_32 C B dX10_layPlacing_397 ?_
            refine x_iload C dX10_layPlacing_400 3 rfl ?_
            refine x_iload C dX10_layPlacing_402 4 rfl ?_
            obtain ⟨h8, hf⟩ := pf_in hf
            refine ms_32 C B h8 dX10_layPlacing_404 ?_
            obtain ⟨s9, es9, hf⟩ := pf_e hf
            refine m_ren es9 ?_
            refine x_inc (c := (-1 : Int32)) (L' := [(0, .ref (mO M)), (1, .int x1), (3, .int x3), (4, .int x4), (5, .int (x5 + (-1 : Int32)))]) C dX10_layPlacing_405 4 rfl (by decide) (Nat.le_of_ble_eq_true rfl) [1, 2, 3, 4, 0] rfl ?_
            refine x_goto (tgt := 323) C dX10_layPlacing_408 (by decide) ?_
            exact ih x1 x3 x4 (x5 + (-1 : Int32)) _ hf
def f_layPlacing_299 (n : Nat) : Nat → Int32 → Int32 → Int32 → MS → Option MS
  | 0, _, _, _, _ => none
  | m + 1, x1, x3, x4, σ => if x1 ≤ x4 then (some σ) else (if inb x4 8 = true then ev (sa σ 32 (Int32.toNatClampNeg x4) (-1 : Int32)) fun s3 => ev ((ga s3 14 0) - (1 : Int32)) fun v4 => f_layPlacing_323 n (f_layPlacing_299 n m) n x1 x3 x4 v4 s3 else none)
set_option maxHeartbeats 4000000 in
theorem w_layPlacing_299 {K : KT} {M : MT} {τ : MS} (n : Nat) (C : Kok K cX10_layPlacing 8 RX10) (B : MB K M) (hr : (kMe K).sig.returnType = none) (dK : kR K = rmD 3) (hQ : KQm K M none τ) : ∀ (m : Nat) (x1 : Int32) (x3 : Int32) (x4 : Int32) (σ : MS) (hf : f_layPlacing_299 n m x1 x3 x4 σ = some τ), XJ K 8 (Wm K M σ) 299 [(0, .ref (mO M)), (1, .int x1), (3, .int x3), (4, .int x4)] [] := by
  intro m
  induction m with
  | zero => intro x1 x3 x4 σ hf; cases hf
  | succ m ih =>
    intro x1 x3 x4 σ hf
    rw [f_layPlacing_299] at hf
    refine x_iload C dX10_layPlacing_299 3 rfl ?_
    refine x_iload_n C dX10_layPlacing_301 1 rfl ?_
    refine x_icmp_ge (tgt := 440) C dX10_layPlacing_302 (by decide) (fun c1 => ?_) (fun c1 => ?_)
    · have hf := pf_t c1 hf
      obtain rfl := Option.some.inj hf
      exact m_vret C hr hQ dX10_layPlacing_440
    · have hf := pf_f c1 hf
      refine x_aload_n C dX10_layPlacing_305 0 rfl ?_
      refine mg_32 C B dX10_layPlacing_306 ?_
      refine x_iload C dX10_layPlacing_309 3 rfl ?_
      refine x_iconst (-1 : Int32) C dX10_layPlacing_311 (by decide) ?_
      obtain ⟨h2, hf⟩ := pf_in hf
      refine ms_32 C B h2 dX10_layPlacing_312 ?_
      obtain ⟨s3, es3, hf⟩ := pf_e hf
      refine m_ren es3 ?_
      refine x_aload_n C dX10_layPlacing_313 0 rfl ?_
      refine mg_14 C B dX10_layPlacing_314 ?_
      refine x_iconst (0 : Int32) C dX10_layPlacing_317 (by decide) ?_
      refine mlc_14 0 C B (by decide +kernel) dX10_layPlacing_318 ?_
      refine x_iconst (1 : Int32) C dX10_layPlacing_319 (by decide) ?_
      refine x_isub C dX10_layPlacing_320 ?_
      obtain ⟨v4, ev4, hf⟩ := pf_e hf
      refine x_topir ev4 ?_
      refine x_istore (L' := [(0, .ref (mO M)), (1, .int x1), (3, .int x3), (4, .int x4), (5, .int v4)]) C dX10_layPlacing_321 (Nat.le_of_ble_eq_true rfl) [1, 2, 3, 4, 0] rfl ?_
      exact w_layPlacing_323 n _ C B hr dK hQ ih n x1 x3 x4 v4 _ hf
def f_layPlacing_136 (n : Nat) : Nat → Int32 → Int32 → Int32 → MS → Option MS
  | 0, _, _, _, _ => none
  | m + 1, x1, x2, x3, σ => if x3 < 0 then (f_layPlacing_299 n n x1 (0 : Int32) (0 : Int32) σ) else (f_layPlacing_143 n (f_layPlacing_136 n m) n x1 x2 x3 (0 : Int32) σ)
set_option maxHeartbeats 4000000 in
theorem w_layPlacing_136 {K : KT} {M : MT} {τ : MS} (n : Nat) (C : Kok K cX10_layPlacing 8 RX10) (B : MB K M) (hr : (kMe K).sig.returnType = none) (dK : kR K = rmD 3) (hQ : KQm K M none τ) : ∀ (m : Nat) (x1 : Int32) (x2 : Int32) (x3 : Int32) (σ : MS) (hf : f_layPlacing_136 n m x1 x2 x3 σ = some τ), XJ K 8 (Wm K M σ) 136 [(0, .ref (mO M)), (1, .int x1), (2, .int x2), (3, .int x3)] [] := by
  intro m
  induction m with
  | zero => intro x1 x2 x3 σ hf; cases hf
  | succ m ih =>
    intro x1 x2 x3 σ hf
    rw [f_layPlacing_136] at hf
    refine x_iload_n C dX10_layPlacing_136 3 rfl ?_
    refine x_if_lt (tgt := 294) C dX10_layPlacing_137 (by decide) (fun c1 => ?_) (fun c1 => ?_)
    · have hf := pf_t c1 hf
      refine x_iconst (0 : Int32) C dX10_layPlacing_294 (by decide) ?_
      refine x_istore_n (L' := [(0, .ref (mO M)), (1, .int x1), (3, .int (0 : Int32))]) C dX10_layPlacing_295 (Nat.le_of_ble_eq_true rfl) [1, 2, 0] rfl ?_
      refine x_iconst (0 : Int32) C dX10_layPlacing_296 (by decide) ?_
      refine x_istore (L' := [(0, .ref (mO M)), (1, .int x1), (3, .int (0 : Int32)), (4, .int (0 : Int32))]) C dX10_layPlacing_297 (Nat.le_of_ble_eq_true rfl) [1, 2, 3, 0] rfl ?_
      exact w_layPlacing_299 n C B hr dK hQ n x1 (0 : Int32) (0 : Int32) _ hf
    · have hf := pf_f c1 hf
      refine x_iconst (0 : Int32) C dX10_layPlacing_140 (by decide) ?_
      refine x_istore (L' := [(0, .ref (mO M)), (1, .int x1), (2, .int x2), (3, .int x3), (4, .int (0 : Int32))]) C dX10_layPlacing_141 (Nat.le_of_ble_eq_true rfl) [1, 2, 3, 4, 0] rfl ?_
      exact w_layPlacing_143 n _ C B hr dK hQ ih n x1 x2 x3 (0 : Int32) _ hf
def f_layPlacing_108 (n : Nat) : Nat → Int32 → Int32 → Int32 → MS → Option MS
  | 0, _, _, _, _ => none
  | m + 1, x1, x2, x3, σ => if x2 ≤ x3 then (ev (x1 - (1 : Int32)) fun v2 => f_layPlacing_136 n n x1 x2 v2 σ) else (if inb (((256 : Int32) * x1) + x3) 2304 = true then ev (sa σ 30 (Int32.toNatClampNeg (((256 : Int32) * x1) + x3)) (0 : Int32)) fun s4 => f_layPlacing_108 n m x1 x2 (x3 + (1 : Int32)) s4 else none)
set_option maxHeartbeats 4000000 in
theorem w_layPlacing_108 {K : KT} {M : MT} {τ : MS} (n : Nat) (C : Kok K cX10_layPlacing 8 RX10) (B : MB K M) (hr : (kMe K).sig.returnType = none) (dK : kR K = rmD 3) (hQ : KQm K M none τ) : ∀ (m : Nat) (x1 : Int32) (x2 : Int32) (x3 : Int32) (σ : MS) (hf : f_layPlacing_108 n m x1 x2 x3 σ = some τ), XJ K 8 (Wm K M σ) 108 [(0, .ref (mO M)), (1, .int x1), (2, .int x2), (3, .int x3)] [] := by
  intro m
  induction m with
  | zero => intro x1 x2 x3 σ hf; cases hf
  | succ m ih =>
    intro x1 x2 x3 σ hf
    rw [f_layPlacing_108] at hf
    refine x_iload_n C dX10_layPlacing_108 3 rfl ?_
    refine x_iload_n C dX10_layPlacing_109 2 rfl ?_
    refine x_icmp_ge (tgt := 132) C dX10_layPlacing_110 (by decide) (fun c1 => ?_) (fun c1 => ?_)
    · have hf := pf_t c1 hf
      refine x_iload_n C dX10_layPlacing_132 1 rfl ?_
      refine x_iconst (1 : Int32) C dX10_layPlacing_133 (by decide) ?_
      refine x_isub C dX10_layPlacing_134 ?_
      obtain ⟨v2, ev2, hf⟩ := pf_e hf
      refine x_topir ev2 ?_
      refine x_istore_n (L' := [(0, .ref (mO M)), (1, .int x1), (2, .int x2), (3, .int v2)]) C dX10_layPlacing_135 (Nat.le_of_ble_eq_true rfl) [1, 2, 3, 0] rfl ?_
      exact w_layPlacing_136 n C B hr dK hQ n x1 x2 v2 _ hf
    · have hf := pf_f c1 hf
      refine x_aload_n C dX10_layPlacing_113 0 rfl ?_
      refine mg_30 C B dX10_layPlacing_114 ?_
      refine x_sipush (256 : Int32) C dX10_layPlacing_117 (by decide) ?_
      refine x_iload_n C dX10_layPlacing_120 1 rfl ?_
      refine x_imul C dX10_layPlacing_121 ?_
      refine x_iload_n C dX10_layPlacing_122 3 rfl ?_
      refine x_iadd C dX10_layPlacing_123 ?_
      refine x_iconst (0 : Int32) C dX10_layPlacing_124 (by decide) ?_
      obtain ⟨h3, hf⟩ := pf_in hf
      refine ms_30 C B h3 dX10_layPlacing_125 ?_
      obtain ⟨s4, es4, hf⟩ := pf_e hf
      refine m_ren es4 ?_
      refine x_inc (c := (1 : Int32)) (L' := [(0, .ref (mO M)), (1, .int x1), (2, .int x2), (3, .int (x3 + (1 : Int32)))]) C dX10_layPlacing_126 3 rfl (by decide) (Nat.le_of_ble_eq_true rfl) [1, 2, 3, 0] rfl ?_
      refine x_goto (tgt := 108) C dX10_layPlacing_129 (by decide) ?_
      exact ih x1 x2 (x3 + (1 : Int32)) _ hf
def f_layPlacing_18 (n : Nat) : Nat → Int32 → Int32 → Int32 → MS → Option MS
  | 0, _, _, _, _ => none
  | m + 1, x1, x2, x3, σ => if x1 ≤ x3 then (f_layPlacing_108 n n x1 x2 (0 : Int32) σ) else (f_layPlacing_26 n (f_layPlacing_18 n m) n x1 x2 x3 (0 : Int32) σ)
set_option maxHeartbeats 4000000 in
theorem w_layPlacing_18 {K : KT} {M : MT} {τ : MS} (n : Nat) (C : Kok K cX10_layPlacing 8 RX10) (B : MB K M) (hr : (kMe K).sig.returnType = none) (dK : kR K = rmD 3) (hQ : KQm K M none τ) : ∀ (m : Nat) (x1 : Int32) (x2 : Int32) (x3 : Int32) (σ : MS) (hf : f_layPlacing_18 n m x1 x2 x3 σ = some τ), XJ K 8 (Wm K M σ) 18 [(0, .ref (mO M)), (1, .int x1), (2, .int x2), (3, .int x3)] [] := by
  intro m
  induction m with
  | zero => intro x1 x2 x3 σ hf; cases hf
  | succ m ih =>
    intro x1 x2 x3 σ hf
    rw [f_layPlacing_18] at hf
    refine x_iload_n C dX10_layPlacing_18 3 rfl ?_
    refine x_iload_n C dX10_layPlacing_19 1 rfl ?_
    refine x_icmp_ge (tgt := 106) C dX10_layPlacing_20 (by decide) (fun c1 => ?_) (fun c1 => ?_)
    · have hf := pf_t c1 hf
      refine x_iconst (0 : Int32) C dX10_layPlacing_106 (by decide) ?_
      refine x_istore_n (L' := [(0, .ref (mO M)), (1, .int x1), (2, .int x2), (3, .int (0 : Int32))]) C dX10_layPlacing_107 (Nat.le_of_ble_eq_true rfl) [1, 2, 3, 0] rfl ?_
      exact w_layPlacing_108 n C B hr dK hQ n x1 x2 (0 : Int32) _ hf
    · have hf := pf_f c1 hf
      refine x_iconst (0 : Int32) C dX10_layPlacing_23 (by decide) ?_
      refine x_istore (L' := [(0, .ref (mO M)), (1, .int x1), (2, .int x2), (3, .int x3), (4, .int (0 : Int32))]) C dX10_layPlacing_24 (Nat.le_of_ble_eq_true rfl) [1, 2, 3, 4, 0] rfl ?_
      exact w_layPlacing_26 n _ C B hr dK hQ ih n x1 x2 x3 (0 : Int32) _ hf
def f_layPlacing (n : Nat) (σ : MS) : Option MS := ev (ga σ 14 3) fun v1 => ev ((1 : Int32) <<< ((ga σ 14 0) &&& 31)) fun v2 => f_layPlacing_18 n n v1 v2 (0 : Int32) σ
set_option maxHeartbeats 4000000 in
theorem w_layPlacing_E {K : KT} {M : MT} {τ : MS} (n : Nat) (C : Kok K cX10_layPlacing 8 RX10) (B : MB K M) (hr : (kMe K).sig.returnType = none) (dK : kR K = rmD 3) (hQ : KQm K M none τ) (σ : MS) (hf : f_layPlacing n σ = some τ) : XJ K 8 (Wm K M σ) 0 [(0, .ref (mO M))] [] := by
  unfold f_layPlacing at hf
  refine x_aload_n C dX10_layPlacing_0 0 rfl ?_
  refine mg_14 C B dX10_layPlacing_1 ?_
  refine x_iconst (3 : Int32) C dX10_layPlacing_4 (by decide) ?_
  refine mlc_14 3 C B (by decide +kernel) dX10_layPlacing_5 ?_
  obtain ⟨v1, ev1, hf⟩ := pf_e hf
  refine x_topir ev1 ?_
  refine x_istore_n (L' := [(0, .ref (mO M)), (1, .int v1)]) C dX10_layPlacing_6 (Nat.le_of_ble_eq_true rfl) [1, 0] rfl ?_
  refine x_iconst (1 : Int32) C dX10_layPlacing_7 (by decide) ?_
  refine x_aload_n C dX10_layPlacing_8 0 rfl ?_
  refine mg_14 C B dX10_layPlacing_9 ?_
  refine x_iconst (0 : Int32) C dX10_layPlacing_12 (by decide) ?_
  refine mlc_14 0 C B (by decide +kernel) dX10_layPlacing_13 ?_
  refine x_ishl C dX10_layPlacing_14 ?_
  obtain ⟨v2, ev2, hf⟩ := pf_e hf
  refine x_topir ev2 ?_
  refine x_istore_n (L' := [(0, .ref (mO M)), (1, .int v1), (2, .int v2)]) C dX10_layPlacing_15 (Nat.le_of_ble_eq_true rfl) [1, 2, 0] rfl ?_
  refine x_iconst (0 : Int32) C dX10_layPlacing_16 (by decide) ?_
  refine x_istore_n (L' := [(0, .ref (mO M)), (1, .int v1), (2, .int v2), (3, .int (0 : Int32))]) C dX10_layPlacing_17 (Nat.le_of_ble_eq_true rfl) [1, 2, 3, 0] rfl ?_
  exact w_layPlacing_18 n C B hr dK hQ n v1 v2 (0 : Int32) _ hf
theorem met_layPlacing {M : MT} {v : MS} {n : Nat} {σ : MS} {l : Launch} (hc : (mCl M)[mCi M]? = some (RX10, TX10, 61)) (hf : f_layPlacing n σ = some v) : Met l yX10_layPlacing (ws_ yX10_layPlacing cX10_layPlacing 8 none) (rmD 3) (va_Pc [.ref (mO M)] (MU M σ)) (Qm M none v) 0 0 (mAd M) :=
  m_met [.ref (mO M)] (by decide) rfl (Nat.le_of_ble_eq_true rfl) hc (fun K hl hR hr C B hQ => w_layPlacing_E _ C B hr hR hQ _ hf)
theorem mc_layPlacing {K : KT} {M : MT} {cc : ByteArray} {nL pc dk : Nat} {L : List (Nat × Value)} {rest : List Value} {σ : MS} {v : MS} {n : Nat} (C : Kok K cc nL RX10) (B : MB K M) (dK : kR K = rmD dk) (hd : 3 + 1 ≤ dk) (hf : f_layPlacing n σ = some v) (hW : (rest.map fun v => v.category).sum ≤ 8) (dd : decode cc pc = .ok (.invokevirtual 373, 3)) (kk2 : XJ K nL (Wm K M v) (pc + 3) L (rest)) : XJ K nL (Wm K M σ) pc L (.ref (mO M) :: rest) :=
  m_callV (rest := rest) (v := none) [] 0 rfl C B dK hd (Nat.le_of_ble_eq_true rfl) (lw_V q2293 q2295 qs92 q133 q2296) (by decide +kernel) (met_layPlacing B.2 hf) rfl hW dd kk2
def f_placing (n : Nat) (x1 : Int32) (σ : MS) : Option (Int32 × MS) := ev (si σ 0 (0 : Int32)) fun s1 => if (f_isIn x1 (0 : Int32) (1 : Int32)) = 0 then (ev (f_refuse s1) fun r5 => some (r5.1, r5.2)) else ((f_layPlacing n s1).bind fun r3 => (f_part n (ga r3 30 0) (5040 : Int32) x1).bind fun r4 => some (r4, r3))
set_option maxHeartbeats 4000000 in
theorem w_placing_E {K : KT} {M : MT} {r : Int32} {τ : MS} (n : Nat) (C : Kok K cX10_placing 2 RX10) (B : MB K M) (hr : (kMe K).sig.returnType = some .int) (dK : kR K = rmD 4) (hQ : KQm K M (some (.int r)) τ) (x1 : Int32) (σ : MS) (hf : f_placing n x1 σ = some (r, τ)) : XJ K 2 (Wm K M σ) 0 [(0, .ref (mO M)), (1, .int x1)] [] := by
  unfold f_placing at hf
  refine x_aload_n C dX10_placing_0 0 rfl ?_
  refine x_iconst (0 : Int32) C dX10_placing_1 (by decide) ?_
  refine mp_0 C B dX10_placing_2 ?_
  obtain ⟨s1, es1, hf⟩ := pf_e hf
  refine m_ren es1 ?_
  refine x_iload_n C dX10_placing_5 1 rfl ?_
  refine x_iconst (0 : Int32) C dX10_placing_6 (by decide) ?_
  refine x_iconst (1 : Int32) C dX10_placing_7 (by decide) ?_
  refine mc_isIn C B dK (Nat.le_of_ble_eq_true rfl) rfl (Nat.le_of_ble_eq_true rfl) dX10_placing_8 ?_
  refine x_if_ne (tgt := 19) C dX10_placing_11 (by decide) (fun c2 => ?_) (fun c2 => ?_)
  · have hf := pf_f c2 hf
    refine x_aload_n C dX10_placing_19 0 rfl ?_
    obtain ⟨r3, er3, hf⟩ := pf_b hf
    refine mc_layPlacing C B dK (Nat.le_of_ble_eq_true rfl) er3 (Nat.le_of_ble_eq_true rfl) dX10_placing_20 ?_
    refine x_aload_n C dX10_placing_23 0 rfl ?_
    refine mg_30 C B dX10_placing_24 ?_
    refine x_iconst (0 : Int32) C dX10_placing_27 (by decide) ?_
    refine mlc_30 0 C B (by decide +kernel) dX10_placing_28 ?_
    refine x_sipush (5040 : Int32) C dX10_placing_29 (by decide) ?_
    refine x_iload_n C dX10_placing_32 1 rfl ?_
    obtain ⟨r4, er4, hf⟩ := pf_b hf
    refine mc_part C B dK (Nat.le_of_ble_eq_true rfl) er4 (Nat.le_of_ble_eq_true rfl) dX10_placing_33 ?_
    obtain ⟨rfl, rfl⟩ := Prod.mk.inj (Option.some.inj hf)
    exact m_iret C hr hQ dX10_placing_36
  · have hf := pf_t c2 hf
    refine x_aload_n C dX10_placing_14 0 rfl ?_
    obtain ⟨r5, er5, hf⟩ := pf_e hf
    refine mc_refuse C B dK (Nat.le_of_ble_eq_true rfl) er5.symm (Nat.le_of_ble_eq_true rfl) dX10_placing_15 ?_
    obtain ⟨rfl, rfl⟩ := Prod.mk.inj (Option.some.inj hf)
    exact m_iret C hr hQ dX10_placing_18
theorem met_placing {M : MT} {v : (Int32 × MS)} {n : Nat} {σ : MS} {x1 : Int32} {l : Launch} (hc : (mCl M)[mCi M]? = some (RX10, TX10, 61)) (hf : f_placing n x1 σ = some v) : Met l yX10_placing (ws_ yX10_placing cX10_placing 2 (some .int)) (rmD 4) (va_Pc [.ref (mO M), .int x1] (MU M σ)) (Qm M (some (.int v.1)) v.2) 0 0 (mAd M) :=
  m_met [.ref (mO M), .int x1] (by decide) rfl (Nat.le_of_ble_eq_true rfl) hc (fun K hl hR hr C B hQ => w_placing_E _ C B hr hR hQ _ _ hf)
def f_placed (n : Nat) (x1 : Int32) (σ : MS) : Option (Int32 × MS) := ev (si σ 0 (0 : Int32)) fun s1 => if (f_isStatue s1 x1) = 0 then (some ((-1 : Int32), s1)) else ((f_layPlacing n s1).bind fun r3 => if inb x1 8 = true then some (ga r3 32 (Int32.toNatClampNeg x1), r3) else none)
set_option maxHeartbeats 4000000 in
theorem w_placed_E {K : KT} {M : MT} {r : Int32} {τ : MS} (n : Nat) (C : Kok K cX10_placed 2 RX10) (B : MB K M) (hr : (kMe K).sig.returnType = some .int) (dK : kR K = rmD 4) (hQ : KQm K M (some (.int r)) τ) (x1 : Int32) (σ : MS) (hf : f_placed n x1 σ = some (r, τ)) : XJ K 2 (Wm K M σ) 0 [(0, .ref (mO M)), (1, .int x1)] [] := by
  unfold f_placed at hf
  refine x_aload_n C dX10_placed_0 0 rfl ?_
  refine x_iconst (0 : Int32) C dX10_placed_1 (by decide) ?_
  refine mp_0 C B dX10_placed_2 ?_
  obtain ⟨s1, es1, hf⟩ := pf_e hf
  refine m_ren es1 ?_
  refine x_aload_n C dX10_placed_5 0 rfl ?_
  refine x_iload_n C dX10_placed_6 1 rfl ?_
  refine mc_isStatue C B dK (Nat.le_of_ble_eq_true rfl) rfl (Nat.le_of_ble_eq_true rfl) dX10_placed_7 ?_
  refine x_if_ne (tgt := 15) C dX10_placed_10 (by decide) (fun c2 => ?_) (fun c2 => ?_)
  · have hf := pf_f c2 hf
    refine x_aload_n C dX10_placed_15 0 rfl ?_
    obtain ⟨r3, er3, hf⟩ := pf_b hf
    refine mc_layPlacing C B dK (Nat.le_of_ble_eq_true rfl) er3 (Nat.le_of_ble_eq_true rfl) dX10_placed_16 ?_
    refine x_aload_n C dX10_placed_19 0 rfl ?_
    refine mg_32 C B dX10_placed_20 ?_
    refine x_iload_n C dX10_placed_23 1 rfl ?_
    obtain ⟨h4, hf⟩ := pf_in hf
    refine ml_32 C B h4 dX10_placed_24 ?_
    obtain ⟨rfl, rfl⟩ := Prod.mk.inj (Option.some.inj hf)
    exact m_iret C hr hQ dX10_placed_25
  · have hf := pf_t c2 hf
    refine x_iconst (-1 : Int32) C dX10_placed_13 (by decide) ?_
    obtain ⟨rfl, rfl⟩ := Prod.mk.inj (Option.some.inj hf)
    exact m_iret C hr hQ dX10_placed_14
theorem met_placed {M : MT} {v : (Int32 × MS)} {n : Nat} {σ : MS} {x1 : Int32} {l : Launch} (hc : (mCl M)[mCi M]? = some (RX10, TX10, 61)) (hf : f_placed n x1 σ = some v) : Met l yX10_placed (ws_ yX10_placed cX10_placed 2 (some .int)) (rmD 4) (va_Pc [.ref (mO M), .int x1] (MU M σ)) (Qm M (some (.int v.1)) v.2) 0 0 (mAd M) :=
  m_met [.ref (mO M), .int x1] (by decide) rfl (Nat.le_of_ble_eq_true rfl) hc (fun K hl hR hr C B hQ => w_placed_E _ C B hr hR hQ _ _ hf)
def f_bribesAsTold_2 (n : Nat) : Nat → Int32 → MS → Option MS
  | 0, _, _ => none
  | m + 1, x1, σ => if (8 : Int32) ≤ x1 then (some σ) else (if inb ((46 : Int32) + x1) 532 = true then if inb x1 8 = true then ev (sa σ 35 (Int32.toNatClampNeg x1) (ga σ 14 (Int32.toNatClampNeg ((46 : Int32) + x1)))) fun s4 => f_bribesAsTold_2 n m (x1 + (1 : Int32)) s4 else none else none)
set_option maxHeartbeats 4000000 in
theorem w_bribesAsTold_2 {K : KT} {M : MT} {τ : MS} (n : Nat) (C : Kok K cX10_bribesAsTold 2 RX10) (B : MB K M) (hr : (kMe K).sig.returnType = none) (dK : kR K = rmD 1) (hQ : KQm K M none τ) : ∀ (m : Nat) (x1 : Int32) (σ : MS) (hf : f_bribesAsTold_2 n m x1 σ = some τ), XJ K 2 (Wm K M σ) 2 [(0, .ref (mO M)), (1, .int x1)] [] := by
  intro m
  induction m with
  | zero => intro x1 σ hf; cases hf
  | succ m ih =>
    intro x1 σ hf
    rw [f_bribesAsTold_2] at hf
    refine x_iload_n C dX10_bribesAsTold_2 1 rfl ?_
    refine x_bipush (8 : Int32) C dX10_bribesAsTold_3 (by decide) ?_
    refine x_icmp_ge (tgt := 29) C dX10_bribesAsTold_5 (by decide) (fun c1 => ?_) (fun c1 => ?_)
    · have hf := pf_t c1 hf
      obtain rfl := Option.some.inj hf
      exact m_vret C hr hQ dX10_bribesAsTold_29
    · have hf := pf_f c1 hf
      refine x_aload_n C dX10_bribesAsTold_8 0 rfl ?_
      refine mg_35 C B dX10_bribesAsTold_9 ?_
      refine x_iload_n C dX10_bribesAsTold_12 1 rfl ?_
      refine x_aload_n C dX10_bribesAsTold_13 0 rfl ?_
      refine mg_14 C B dX10_bribesAsTold_14 ?_
      refine x_bipush (46 : Int32) C dX10_bribesAsTold_17 (by decide) ?_
      refine x_iload_n C dX10_bribesAsTold_19 1 rfl ?_
      refine x_iadd C dX10_bribesAsTold_20 ?_
      obtain ⟨h2, hf⟩ := pf_in hf
      refine ml_14 C B h2 dX10_bribesAsTold_21 ?_
      obtain ⟨h3, hf⟩ := pf_in hf
      refine ms_35 C B h3 dX10_bribesAsTold_22 ?_
      obtain ⟨s4, es4, hf⟩ := pf_e hf
      refine m_ren es4 ?_
      refine x_inc (c := (1 : Int32)) (L' := [(0, .ref (mO M)), (1, .int (x1 + (1 : Int32)))]) C dX10_bribesAsTold_23 1 rfl (by decide) (Nat.le_of_ble_eq_true rfl) [1, 0] rfl ?_
      refine x_goto (tgt := 2) C dX10_bribesAsTold_26 (by decide) ?_
      exact ih (x1 + (1 : Int32)) _ hf
def f_bribesAsTold (n : Nat) (σ : MS) : Option MS := f_bribesAsTold_2 n n (0 : Int32) σ
set_option maxHeartbeats 4000000 in
theorem w_bribesAsTold_E {K : KT} {M : MT} {τ : MS} (n : Nat) (C : Kok K cX10_bribesAsTold 2 RX10) (B : MB K M) (hr : (kMe K).sig.returnType = none) (dK : kR K = rmD 1) (hQ : KQm K M none τ) (σ : MS) (hf : f_bribesAsTold n σ = some τ) : XJ K 2 (Wm K M σ) 0 [(0, .ref (mO M))] [] := by
  unfold f_bribesAsTold at hf
  refine x_iconst (0 : Int32) C dX10_bribesAsTold_0 (by decide) ?_
  refine x_istore_n (L' := [(0, .ref (mO M)), (1, .int (0 : Int32))]) C dX10_bribesAsTold_1 (Nat.le_of_ble_eq_true rfl) [1, 0] rfl ?_
  exact w_bribesAsTold_2 n C B hr dK hQ n (0 : Int32) _ hf
theorem met_bribesAsTold {M : MT} {v : MS} {n : Nat} {σ : MS} {l : Launch} (hc : (mCl M)[mCi M]? = some (RX10, TX10, 61)) (hf : f_bribesAsTold n σ = some v) : Met l yX10_bribesAsTold (ws_ yX10_bribesAsTold cX10_bribesAsTold 2 none) (rmD 1) (va_Pc [.ref (mO M)] (MU M σ)) (Qm M none v) 0 0 (mAd M) :=
  m_met [.ref (mO M)] (by decide) rfl (Nat.le_of_ble_eq_true rfl) hc (fun K hl hR hr C B hQ => w_bribesAsTold_E _ C B hr hR hQ _ hf)
theorem mc_bribesAsTold {K : KT} {M : MT} {cc : ByteArray} {nL pc dk : Nat} {L : List (Nat × Value)} {rest : List Value} {σ : MS} {v : MS} {n : Nat} (C : Kok K cc nL RX10) (B : MB K M) (dK : kR K = rmD dk) (hd : 1 + 1 ≤ dk) (hf : f_bribesAsTold n σ = some v) (hW : (rest.map fun v => v.category).sum ≤ 8) (dd : decode cc pc = .ok (.invokevirtual 389, 3)) (kk2 : XJ K nL (Wm K M v) (pc + 3) L (rest)) : XJ K nL (Wm K M σ) pc L (.ref (mO M) :: rest) :=
  m_callV (rest := rest) (v := none) [] 0 rfl C B dK hd (Nat.le_of_ble_eq_true rfl) (lw_V q2306 q2308 qs93 q133 q2309) (by decide +kernel) (met_bribesAsTold B.2 hf) rfl hW dd kk2
def f_bribeAt (n : Nat) (σ : MS) (x1 : Int32) : Option Int32 := (f_standsAt n σ x1).bind fun r1 => if r1 = (-1 : Int32) then (some (0 : Int32)) else (if inb r1 8 = true then some (ga σ 35 (Int32.toNatClampNeg r1)) else none)
set_option maxHeartbeats 4000000 in
theorem w_bribeAt_E {K : KT} {M : MT} {r : Int32} (n : Nat) (σ : MS) (C : Kok K cX10_bribeAt 3 RX10) (B : MB K M) (hr : (kMe K).sig.returnType = some .int) (dK : kR K = rmD 2) (hQ : KQm K M (some (.int r)) σ) (x1 : Int32) (hf : f_bribeAt n σ x1 = some r) : XJ K 3 (Wm K M σ) 0 [(0, .ref (mO M)), (1, .int x1)] [] := by
  unfold f_bribeAt at hf
  refine x_aload_n C dX10_bribeAt_0 0 rfl ?_
  refine x_iload_n C dX10_bribeAt_1 1 rfl ?_
  obtain ⟨r1, er1, hf⟩ := pf_b hf
  refine mc_standsAt C B dK (Nat.le_of_ble_eq_true rfl) er1 (Nat.le_of_ble_eq_true rfl) dX10_bribeAt_2 ?_
  refine x_istore_n (L' := [(0, .ref (mO M)), (2, .int r1)]) C dX10_bribeAt_5 (Nat.le_of_ble_eq_true rfl) [1, 0] rfl ?_
  refine x_iload_n C dX10_bribeAt_6 1 rfl ?_
  refine x_iconst (-1 : Int32) C dX10_bribeAt_7 (by decide) ?_
  refine x_icmp_ne (tgt := 15) C dX10_bribeAt_8 (by decide) (fun c2 => ?_) (fun c2 => ?_)
  · have hf := pf_f c2 hf
    refine x_aload_n C dX10_bribeAt_15 0 rfl ?_
    refine mg_35 C B dX10_bribeAt_16 ?_
    refine x_iload_n C dX10_bribeAt_19 1 rfl ?_
    obtain ⟨h3, hf⟩ := pf_in hf
    refine ml_35 C B h3 dX10_bribeAt_20 ?_
    obtain rfl := Option.some.inj hf
    exact m_iret C hr hQ dX10_bribeAt_21
  · have hf := pf_t c2 hf
    refine x_iconst (0 : Int32) C dX10_bribeAt_11 (by decide) ?_
    refine x_goto (tgt := 21) C dX10_bribeAt_12 (by decide) ?_
    obtain rfl := Option.some.inj hf
    exact m_iret C hr hQ dX10_bribeAt_21
theorem met_bribeAt {M : MT} {v : Int32} {n : Nat} {σ : MS} {x1 : Int32} {l : Launch} (hc : (mCl M)[mCi M]? = some (RX10, TX10, 61)) (hf : f_bribeAt n σ x1 = some v) : Met l yX10_bribeAt (ws_ yX10_bribeAt cX10_bribeAt 3 (some .int)) (rmD 2) (va_Pc [.ref (mO M), .int x1] (MU M σ)) (Qm M (some (.int v)) σ) 0 0 (mAd M) :=
  m_met [.ref (mO M), .int x1] (by decide) rfl (Nat.le_of_ble_eq_true rfl) hc (fun K hl hR hr C B hQ => w_bribeAt_E _ _ C B hr hR hQ _ hf)
theorem mc_bribeAt {K : KT} {M : MT} {cc : ByteArray} {nL pc dk : Nat} {L : List (Nat × Value)} {rest : List Value} {σ : MS} {v : Int32} {n : Nat} {x1 : Int32} (C : Kok K cc nL RX10) (B : MB K M) (dK : kR K = rmD dk) (hd : 2 + 1 ≤ dk) (hf : f_bribeAt n σ x1 = some v) (hW : (rest.map fun v => v.category).sum ≤ 8) (dd : decode cc pc = .ok (.invokevirtual 382, 3)) (kk2 : XJ K nL (Wm K M σ) (pc + 3) L ((.int v) :: rest)) : XJ K nL (Wm K M σ) pc L (.int x1 :: .ref (mO M) :: rest) :=
  m_callV (rest := rest) (v := (some (.int v))) [.int x1] 1 rfl C B dK hd (Nat.le_of_ble_eq_true rfl) (lw_V q2314 q2316 qs95 q133 q2317) (by decide +kernel) (met_bribeAt B.2 hf) rfl hW dd kk2
theorem mcr_goFrom {K : KT} {M : MT} {cc : ByteArray} {nL pc dk : Nat} {L : List (Nat × Value)} {rest : List Value} {σ : MS} {v : MS} {rs : Int32 → Int32 → Int32 → Int32 → MS → Option MS} {rf : Nat} {x1 : Int32} {x2 : Int32} {x3 : Int32} {x4 : Int32} (C : Kok K cc nL RX10) (B : MB K M) (hrs : ∀ (a0 : Int32) (a1 : Int32) (a2 : Int32) (a3 : Int32) (σ : MS) (v : MS), rs a0 a1 a2 a3 σ = some v → Met (kL K) yX10_goFrom (ws_ yX10_goFrom cX10_goFrom 7 none) (rmD (3 + 1 * rf)) (va_Pc [.ref (mO M), .int a0, .int a1, .int a2, .int a3] (MU M σ)) (Qm M none v) 0 0 (mAd M)) (dK : kR K = rmD dk) (hd : (3 + 1 * rf) + 1 ≤ dk) (hf : rs x1 x2 x3 x4 σ = some v) (hW : (rest.map fun v => v.category).sum ≤ 8) (dd : decode cc pc = .ok (.invokevirtual 385, 3)) (kk2 : XJ K nL (Wm K M v) (pc + 3) L (rest)) : XJ K nL (Wm K M σ) pc L (.int x4 :: .int x3 :: .int x2 :: .int x1 :: .ref (mO M) :: rest) :=
  m_callV (rest := rest) (v := none) [.int x1, .int x2, .int x3, .int x4] 4 rfl C B dK hd (Nat.le_of_ble_eq_true rfl) (lw_V q2318 q2320 qs96 q133 q2321) (by decide +kernel) (hrs _ _ _ _ _ _ hf) rfl hW dd kk2
def f_goFrom_83 (rs : Int32 → Int32 → Int32 → Int32 → MS → Option MS) (n : Nat) : Nat → Int32 → Int32 → Int32 → Int32 → Int32 → Int32 → MS → Option MS
  | 0, _, _, _, _, _, _, _ => none
  | m + 1, x1, x2, x3, x4, x5, x6, σ => if (ga σ 14 0) ≤ x6 then (some σ) else (if (f_has x2 x6) = 0 then (if inb ((14 : Int32) + x5) 532 = true then if (f_has (ga σ 14 (Int32.toNatClampNeg ((14 : Int32) + x5))) x6) = 0 then (f_goFrom_83 rs n m x1 x2 x3 x4 x5 (x6 + (1 : Int32)) σ) else (if inb x1 8 = true then ev (sa σ 33 (Int32.toNatClampNeg x1) x6) fun s6 => (f_bribeAt n s6 x6).bind fun r7 => (rs (x1 + (1 : Int32)) (x2 ||| ((1 : Int32) <<< (x6 &&& 31))) (x3 + r7) x4 s6).bind fun r8 => f_goFrom_83 rs n m x1 x2 x3 x4 x5 (x6 + (1 : Int32)) r8 else none) else none) else (f_goFrom_83 rs n m x1 x2 x3 x4 x5 (x6 + (1 : Int32)) σ))
set_option maxHeartbeats 4000000 in
theorem w_goFrom_83 {K : KT} {M : MT} {τ : MS} (rs : Int32 → Int32 → Int32 → Int32 → MS → Option MS) (n : Nat) {rf : Nat} (hrs : ∀ (a0 : Int32) (a1 : Int32) (a2 : Int32) (a3 : Int32) (σ : MS) (v : MS), rs a0 a1 a2 a3 σ = some v → Met (kL K) yX10_goFrom (ws_ yX10_goFrom cX10_goFrom 7 none) (rmD (3 + 1 * rf)) (va_Pc [.ref (mO M), .int a0, .int a1, .int a2, .int a3] (MU M σ)) (Qm M none v) 0 0 (mAd M)) (C : Kok K cX10_goFrom 7 RX10) (B : MB K M) (hr : (kMe K).sig.returnType = none) (dK : kR K = rmD (3 + 1 * (rf + 1))) (hQ : KQm K M none τ) : ∀ (m : Nat) (x1 : Int32) (x2 : Int32) (x3 : Int32) (x4 : Int32) (x5 : Int32) (x6 : Int32) (σ : MS) (hf : f_goFrom_83 rs n m x1 x2 x3 x4 x5 x6 σ = some τ), XJ K 7 (Wm K M σ) 83 [(0, .ref (mO M)), (1, .int x1), (2, .int x2), (3, .int x3), (4, .int x4), (5, .int x5), (6, .int x6)] [] := by
  intro m
  induction m with
  | zero => intro x1 x2 x3 x4 x5 x6 σ hf; cases hf
  | succ m ih =>
    intro x1 x2 x3 x4 x5 x6 σ hf
    rw [f_goFrom_83] at hf
    refine x_iload C dX10_goFrom_83 6 rfl ?_
    refine x_aload_n C dX10_goFrom_85 0 rfl ?_
    refine mg_14 C B dX10_goFrom_86 ?_
    refine x_iconst (0 : Int32) C dX10_goFrom_89 (by decide) ?_
    refine mlc_14 0 C B (by decide +kernel) dX10_goFrom_90 ?_
    refine x_icmp_ge (tgt := 161) C dX10_goFrom_91 (by decide) (fun c1 => ?_) (fun c1 => ?_)
    · have hf := pf_t c1 hf
      obtain rfl := Option.some.inj hf
      exact m_vret C hr hQ dX10_goFrom_161
    · have hf := pf_f c1 hf
      refine x_iload_n C dX10_goFrom_94 2 rfl ?_
      refine x_iload C dX10_goFrom_95 6 rfl ?_
      refine mc_has C B dK (by omega) rfl (Nat.le_of_ble_eq_true rfl) dX10_goFrom_97 ?_
      refine x_if_ne (tgt := 155) C dX10_goFrom_100 (by decide) (fun c2 => ?_) (fun c2 => ?_)
      · have hf := pf_f c2 hf
        refine x_inc (c := (1 : Int32)) (L' := [(0, .ref (mO M)), (1, .int x1), (2, .int x2), (3, .int x3), (4, .int x4), (5, .int x5), (6, .int (x6 + (1 : Int32)))]) C dX10_goFrom_155 6 rfl (by decide) (Nat.le_of_ble_eq_true rfl) [1, 2, 3, 4, 5, 6, 0] rfl ?_
        refine x_goto (tgt := 83) C dX10_goFrom_158 (by decide) ?_
        exact ih x1 x2 x3 x4 x5 (x6 + (1 : Int32)) _ hf
      · have hf := pf_t c2 hf
        refine x_aload_n C dX10_goFrom_103 0 rfl ?_
        refine mg_14 C B dX10_goFrom_104 ?_
        refine x_bipush (14 : Int32) C dX10_goFrom_107 (by decide) ?_
        refine x_iload C dX10_goFrom_109 5 rfl ?_
        refine x_iadd C dX10_goFrom_111 ?_
        obtain ⟨h3, hf⟩ := pf_in hf
        refine ml_14 C B h3 dX10_goFrom_112 ?_
        refine x_iload C dX10_goFrom_113 6 rfl ?_
        refine mc_has C B dK (by omega) rfl (Nat.le_of_ble_eq_true rfl) dX10_goFrom_115 ?_
        refine x_if_ne (tgt := 124) C dX10_goFrom_118 (by decide) (fun c4 => ?_) (fun c4 => ?_)
        · have hf := pf_f c4 hf
          refine x_aload_n C dX10_goFrom_124 0 rfl ?_
          refine mg_33 C B dX10_goFrom_125 ?_
          refine x_iload_n C dX10_goFrom_128 1 rfl ?_
          refine x_iload C dX10_goFrom_129 6 rfl ?_
          obtain ⟨h5, hf⟩ := pf_in hf
          refine ms_33 C B h5 dX10_goFrom_131 ?_
          obtain ⟨s6, es6, hf⟩ := pf_e hf
          refine m_ren es6 ?_
          refine x_aload_n C dX10_goFrom_132 0 rfl ?_
          refine x_iload_n C dX10_goFrom_133 1 rfl ?_
          refine x_iconst (1 : Int32) C dX10_goFrom_134 (by decide) ?_
          refine x_iadd C dX10_goFrom_135 ?_
          refine x_iload_n C dX10_goFrom_136 2 rfl ?_
          refine x_iconst (1 : Int32) C dX10_goFrom_137 (by decide) ?_
          refine x_iload C dX10_goFrom_138 6 rfl ?_
          refine x_ishl C dX10_goFrom_140 ?_
          refine x_ior C dX10_goFrom_141 ?_
          refine x_iload_n C dX10_goFrom_142 3 rfl ?_
          refine x_aload_n C dX10_goFrom_143 0 rfl ?_
          refine x_iload C dX10_goFrom_144 6 rfl ?_
          obtain ⟨r7, er7, hf⟩ := pf_b hf
          refine mc_bribeAt C B dK (by omega) er7 (Nat.le_of_ble_eq_true rfl) dX10_goFrom_146 ?_
          refine x_iadd C dX10_goFrom_149 ?_
          refine x_iload C dX10_goFrom_150 4 rfl ?_
          obtain ⟨r8, er8, hf⟩ := pf_b hf
          refine mcr_goFrom C B hrs dK (by omega) er8 (Nat.le_of_ble_eq_true rfl) dX10_goFrom_152 ?_
          refine x_inc (c := (1 : Int32)) (L' := [(0, .ref (mO M)), (1, .int x1), (2, .int x2), (3, .int x3), (4, .int x4), (5, .int x5), (6, .int (x6 + (1 : Int32)))]) C dX10_goFrom_155 6 rfl (by decide) (Nat.le_of_ble_eq_true rfl) [1, 2, 3, 4, 5, 6, 0] rfl ?_
          refine x_goto (tgt := 83) C dX10_goFrom_158 (by decide) ?_
          exact ih x1 x2 x3 x4 x5 (x6 + (1 : Int32)) _ hf
        · have hf := pf_t c4 hf
          refine x_goto (tgt := 155) C dX10_goFrom_121 (by decide) ?_
          refine x_inc (c := (1 : Int32)) (L' := [(0, .ref (mO M)), (1, .int x1), (2, .int x2), (3, .int x3), (4, .int x4), (5, .int x5), (6, .int (x6 + (1 : Int32)))]) C dX10_goFrom_155 6 rfl (by decide) (Nat.le_of_ble_eq_true rfl) [1, 2, 3, 4, 5, 6, 0] rfl ?_
          refine x_goto (tgt := 83) C dX10_goFrom_158 (by decide) ?_
          exact ih x1 x2 x3 x4 x5 (x6 + (1 : Int32)) _ hf
def f_goFrom_63 (rs : Int32 → Int32 → Int32 → Int32 → MS → Option MS) (n : Nat) (x1 : Int32) (x2 : Int32) (x3 : Int32) (x4 : Int32) (σ : MS) : Option MS := if x1 = x4 then (some σ) else (if inb (x1 - (1 : Int32)) 8 = true then ev (ga σ 33 (Int32.toNatClampNeg (x1 - (1 : Int32)))) fun v3 => f_goFrom_83 rs n n x1 x2 x3 x4 v3 (0 : Int32) σ else none)
set_option maxHeartbeats 4000000 in
theorem w_goFrom_63 {K : KT} {M : MT} {τ : MS} (rs : Int32 → Int32 → Int32 → Int32 → MS → Option MS) (n : Nat) {rf : Nat} (hrs : ∀ (a0 : Int32) (a1 : Int32) (a2 : Int32) (a3 : Int32) (σ : MS) (v : MS), rs a0 a1 a2 a3 σ = some v → Met (kL K) yX10_goFrom (ws_ yX10_goFrom cX10_goFrom 7 none) (rmD (3 + 1 * rf)) (va_Pc [.ref (mO M), .int a0, .int a1, .int a2, .int a3] (MU M σ)) (Qm M none v) 0 0 (mAd M)) (C : Kok K cX10_goFrom 7 RX10) (B : MB K M) (hr : (kMe K).sig.returnType = none) (dK : kR K = rmD (3 + 1 * (rf + 1))) (hQ : KQm K M none τ) (x1 : Int32) (x2 : Int32) (x3 : Int32) (x4 : Int32) (σ : MS) (hf : f_goFrom_63 rs n x1 x2 x3 x4 σ = some τ) : XJ K 7 (Wm K M σ) 63 [(0, .ref (mO M)), (1, .int x1), (2, .int x2), (3, .int x3), (4, .int x4)] [] := by
  unfold f_goFrom_63 at hf
  refine x_iload_n C dX10_goFrom_63 1 rfl ?_
  refine x_iload C dX10_goFrom_64 4 rfl ?_
  refine x_icmp_ne (tgt := 70) C dX10_goFrom_66 (by decide) (fun c1 => ?_) (fun c1 => ?_)
  · have hf := pf_f c1 hf
    refine x_aload_n C dX10_goFrom_70 0 rfl ?_
    refine mg_33 C B dX10_goFrom_71 ?_
    refine x_iload_n C dX10_goFrom_74 1 rfl ?_
    refine x_iconst (1 : Int32) C dX10_goFrom_75 (by decide) ?_
    refine x_isub C dX10_goFrom_76 ?_
    obtain ⟨h2, hf⟩ := pf_in hf
    refine ml_33 C B h2 dX10_goFrom_77 ?_
    obtain ⟨v3, ev3, hf⟩ := pf_e hf
    refine x_topir ev3 ?_
    refine x_istore (L' := [(0, .ref (mO M)), (1, .int x1), (2, .int x2), (3, .int x3), (4, .int x4), (5, .int v3)]) C dX10_goFrom_78 (Nat.le_of_ble_eq_true rfl) [1, 2, 3, 4, 5, 0] rfl ?_
    refine x_iconst (0 : Int32) C dX10_goFrom_80 (by decide) ?_
    refine x_istore (L' := [(0, .ref (mO M)), (1, .int x1), (2, .int x2), (3, .int x3), (4, .int x4), (5, .int v3), (6, .int (0 : Int32))]) C dX10_goFrom_81 (Nat.le_of_ble_eq_true rfl) [1, 2, 3, 4, 5, 6, 0] rfl ?_
    exact w_goFrom_83 rs n hrs C B hr dK hQ n x1 x2 x3 x4 v3 (0 : Int32) _ hf
  · have hf := pf_t c1 hf
    obtain rfl := Option.some.inj hf
    exact m_vret C hr hQ dX10_goFrom_69
def f_goFrom_37 (rs : Int32 → Int32 → Int32 → Int32 → MS → Option MS) (n : Nat) : Nat → Int32 → Int32 → Int32 → Int32 → Int32 → MS → Option MS
  | 0, _, _, _, _, _, _ => none
  | m + 1, x1, x2, x3, x4, x5, σ => if x1 ≤ x5 then (f_goFrom_63 rs n x1 x2 x3 x4 σ) else (if inb x5 8 = true then if inb x5 8 = true then ev (sa σ 34 (Int32.toNatClampNeg x5) (ga σ 33 (Int32.toNatClampNeg x5))) fun s4 => f_goFrom_37 rs n m x1 x2 x3 x4 (x5 + (1 : Int32)) s4 else none else none)
set_option maxHeartbeats 4000000 in
theorem w_goFrom_37 {K : KT} {M : MT} {τ : MS} (rs : Int32 → Int32 → Int32 → Int32 → MS → Option MS) (n : Nat) {rf : Nat} (hrs : ∀ (a0 : Int32) (a1 : Int32) (a2 : Int32) (a3 : Int32) (σ : MS) (v : MS), rs a0 a1 a2 a3 σ = some v → Met (kL K) yX10_goFrom (ws_ yX10_goFrom cX10_goFrom 7 none) (rmD (3 + 1 * rf)) (va_Pc [.ref (mO M), .int a0, .int a1, .int a2, .int a3] (MU M σ)) (Qm M none v) 0 0 (mAd M)) (C : Kok K cX10_goFrom 7 RX10) (B : MB K M) (hr : (kMe K).sig.returnType = none) (dK : kR K = rmD (3 + 1 * (rf + 1))) (hQ : KQm K M none τ) : ∀ (m : Nat) (x1 : Int32) (x2 : Int32) (x3 : Int32) (x4 : Int32) (x5 : Int32) (σ : MS) (hf : f_goFrom_37 rs n m x1 x2 x3 x4 x5 σ = some τ), XJ K 7 (Wm K M σ) 37 [(0, .ref (mO M)), (1, .int x1), (2, .int x2), (3, .int x3), (4, .int x4), (5, .int x5)] [] := by
  intro m
  induction m with
  | zero => intro x1 x2 x3 x4 x5 σ hf; cases hf
  | succ m ih =>
    intro x1 x2 x3 x4 x5 σ hf
    rw [f_goFrom_37] at hf
    refine x_iload C dX10_goFrom_37 5 rfl ?_
    refine x_iload_n C dX10_goFrom_39 1 rfl ?_
    refine x_icmp_ge (tgt := 63) C dX10_goFrom_40 (by decide) (fun c1 => ?_) (fun c1 => ?_)
    · have hf := pf_t c1 hf
      refine x_sub [0, 1, 2, 3, 4] (L' := [(0, .ref (mO M)), (1, .int x1), (2, .int x2), (3, .int x3), (4, .int x4)]) rfl ?_
      exact w_goFrom_63 rs n hrs C B hr dK hQ x1 x2 x3 x4 _ hf
    · have hf := pf_f c1 hf
      refine x_aload_n C dX10_goFrom_43 0 rfl ?_
      refine mg_34 C B dX10_goFrom_44 ?_
      refine x_iload C dX10_goFrom_47 5 rfl ?_
      refine x_aload_n C dX10_goFrom_49 0 rfl ?_
      refine mg_33 C B dX10_goFrom_50 ?_
      refine x_iload C dX10_goFrom_53 5 rfl ?_
      obtain ⟨h2, hf⟩ := pf_in hf
      refine ml_33 C B h2 dX10_goFrom_55 ?_
      obtain ⟨h3, hf⟩ := pf_in hf
      refine ms_34 C B h3 dX10_goFrom_56 ?_
      obtain ⟨s4, es4, hf⟩ := pf_e hf
      refine m_ren es4 ?_
      refine x_inc (c := (1 : Int32)) (L' := [(0, .ref (mO M)), (1, .int x1), (2, .int x2), (3, .int x3), (4, .int x4), (5, .int (x5 + (1 : Int32)))]) C dX10_goFrom_57 5 rfl (by decide) (Nat.le_of_ble_eq_true rfl) [1, 2, 3, 4, 5, 0] rfl ?_
      refine x_goto (tgt := 37) C dX10_goFrom_60 (by decide) ?_
      exact ih x1 x2 x3 x4 (x5 + (1 : Int32)) _ hf
def g_goFrom (rs : Int32 → Int32 → Int32 → Int32 → MS → Option MS) (n : Nat) (x1 : Int32) (x2 : Int32) (x3 : Int32) (x4 : Int32) (σ : MS) : Option MS := if (gi σ 38) < x3 then (ev (si σ 38 x3) fun s2 => ev (si s2 37 x1) fun s3 => f_goFrom_37 rs n n x1 x2 x3 x4 (0 : Int32) s3) else (if x3 = (gi σ 38) then (if (gi σ 37) ≤ x1 then (f_goFrom_63 rs n x1 x2 x3 x4 σ) else (ev (si σ 38 x3) fun s6 => ev (si s6 37 x1) fun s7 => f_goFrom_37 rs n n x1 x2 x3 x4 (0 : Int32) s7)) else (f_goFrom_63 rs n x1 x2 x3 x4 σ))
set_option maxHeartbeats 4000000 in
theorem w_goFrom_E {K : KT} {M : MT} {τ : MS} (rs : Int32 → Int32 → Int32 → Int32 → MS → Option MS) (n : Nat) {rf : Nat} (hrs : ∀ (a0 : Int32) (a1 : Int32) (a2 : Int32) (a3 : Int32) (σ : MS) (v : MS), rs a0 a1 a2 a3 σ = some v → Met (kL K) yX10_goFrom (ws_ yX10_goFrom cX10_goFrom 7 none) (rmD (3 + 1 * rf)) (va_Pc [.ref (mO M), .int a0, .int a1, .int a2, .int a3] (MU M σ)) (Qm M none v) 0 0 (mAd M)) (C : Kok K cX10_goFrom 7 RX10) (B : MB K M) (hr : (kMe K).sig.returnType = none) (dK : kR K = rmD (3 + 1 * (rf + 1))) (hQ : KQm K M none τ) (x1 : Int32) (x2 : Int32) (x3 : Int32) (x4 : Int32) (σ : MS) (hf : g_goFrom rs n x1 x2 x3 x4 σ = some τ) : XJ K 7 (Wm K M σ) 0 [(0, .ref (mO M)), (1, .int x1), (2, .int x2), (3, .int x3), (4, .int x4)] [] := by
  unfold g_goFrom at hf
  refine x_iload_n C dX10_goFrom_0 3 rfl ?_
  refine x_aload_n C dX10_goFrom_1 0 rfl ?_
  refine mg_38 C B dX10_goFrom_2 ?_
  refine x_icmp_gt (tgt := 24) C dX10_goFrom_5 (by decide) (fun c1 => ?_) (fun c1 => ?_)
  · have hf := pf_t c1 hf
    refine x_aload_n C dX10_goFrom_24 0 rfl ?_
    refine x_iload_n C dX10_goFrom_25 3 rfl ?_
    refine mp_38 C B dX10_goFrom_26 ?_
    obtain ⟨s2, es2, hf⟩ := pf_e hf
    refine m_ren es2 ?_
    refine x_aload_n C dX10_goFrom_29 0 rfl ?_
    refine x_iload_n C dX10_goFrom_30 1 rfl ?_
    refine mp_37 C B dX10_goFrom_31 ?_
    obtain ⟨s3, es3, hf⟩ := pf_e hf
    refine m_ren es3 ?_
    refine x_iconst (0 : Int32) C dX10_goFrom_34 (by decide) ?_
    refine x_istore (L' := [(0, .ref (mO M)), (1, .int x1), (2, .int x2), (3, .int x3), (4, .int x4), (5, .int (0 : Int32))]) C dX10_goFrom_35 (Nat.le_of_ble_eq_true rfl) [1, 2, 3, 4, 5, 0] rfl ?_
    exact w_goFrom_37 rs n hrs C B hr dK hQ n x1 x2 x3 x4 (0 : Int32) _ hf
  · have hf := pf_f c1 hf
    refine x_iload_n C dX10_goFrom_8 3 rfl ?_
    refine x_aload_n C dX10_goFrom_9 0 rfl ?_
    refine mg_38 C B dX10_goFrom_10 ?_
    refine x_icmp_ne (tgt := 63) C dX10_goFrom_13 (by decide) (fun c4 => ?_) (fun c4 => ?_)
    · have hf := pf_f c4 hf
      exact w_goFrom_63 rs n hrs C B hr dK hQ x1 x2 x3 x4 _ hf
    · have hf := pf_t c4 hf
      refine x_iload_n C dX10_goFrom_16 1 rfl ?_
      refine x_aload_n C dX10_goFrom_17 0 rfl ?_
      refine mg_37 C B dX10_goFrom_18 ?_
      refine x_icmp_ge (tgt := 63) C dX10_goFrom_21 (by decide) (fun c5 => ?_) (fun c5 => ?_)
      · have hf := pf_t c5 hf
        exact w_goFrom_63 rs n hrs C B hr dK hQ x1 x2 x3 x4 _ hf
      · have hf := pf_f c5 hf
        refine x_aload_n C dX10_goFrom_24 0 rfl ?_
        refine x_iload_n C dX10_goFrom_25 3 rfl ?_
        refine mp_38 C B dX10_goFrom_26 ?_
        obtain ⟨s6, es6, hf⟩ := pf_e hf
        refine m_ren es6 ?_
        refine x_aload_n C dX10_goFrom_29 0 rfl ?_
        refine x_iload_n C dX10_goFrom_30 1 rfl ?_
        refine mp_37 C B dX10_goFrom_31 ?_
        obtain ⟨s7, es7, hf⟩ := pf_e hf
        refine m_ren es7 ?_
        refine x_iconst (0 : Int32) C dX10_goFrom_34 (by decide) ?_
        refine x_istore (L' := [(0, .ref (mO M)), (1, .int x1), (2, .int x2), (3, .int x3), (4, .int x4), (5, .int (0 : Int32))]) C dX10_goFrom_35 (Nat.le_of_ble_eq_true rfl) [1, 2, 3, 4, 5, 0] rfl ?_
        exact w_goFrom_37 rs n hrs C B hr dK hQ n x1 x2 x3 x4 (0 : Int32) _ hf
theorem metg_goFrom {M : MT} {v : MS} {rs : Int32 → Int32 → Int32 → Int32 → MS → Option MS} {n : Nat} {σ : MS} {x1 : Int32} {x2 : Int32} {x3 : Int32} {x4 : Int32} {rf : Nat} {l : Launch} (hrs : ∀ (a0 : Int32) (a1 : Int32) (a2 : Int32) (a3 : Int32) (σ : MS) (v : MS), rs a0 a1 a2 a3 σ = some v → Met l yX10_goFrom (ws_ yX10_goFrom cX10_goFrom 7 none) (rmD (3 + 1 * rf)) (va_Pc [.ref (mO M), .int a0, .int a1, .int a2, .int a3] (MU M σ)) (Qm M none v) 0 0 (mAd M)) (hc : (mCl M)[mCi M]? = some (RX10, TX10, 61)) (hf : g_goFrom rs n x1 x2 x3 x4 σ = some v) : Met l yX10_goFrom (ws_ yX10_goFrom cX10_goFrom 7 none) (rmD (3 + 1 * (rf + 1))) (va_Pc [.ref (mO M), .int x1, .int x2, .int x3, .int x4] (MU M σ)) (Qm M none v) 0 0 (mAd M) :=
  m_met [.ref (mO M), .int x1, .int x2, .int x3, .int x4] (by decide) rfl (Nat.le_of_ble_eq_true rfl) hc (fun K hl hR hr C B hQ => w_goFrom_E _ _ (hl ▸ hrs) C B hr hR hQ _ _ _ _ _ hf)
def f_goFrom (n : Nat) : Nat → Int32 → Int32 → Int32 → Int32 → MS → Option MS
  | 0 => fun _ _ _ _ _ => none
  | rf + 1 => fun x1 x2 x3 x4 σ => g_goFrom (f_goFrom n rf) n x1 x2 x3 x4 σ
theorem met_goFrom {M : MT} {l : Launch} {n : Nat} (hc : (mCl M)[mCi M]? = some (RX10, TX10, 61)) : ∀ (rf : Nat) (x1 : Int32) (x2 : Int32) (x3 : Int32) (x4 : Int32) (σ : MS) (v : MS), f_goFrom n rf x1 x2 x3 x4 σ = some v → Met l yX10_goFrom (ws_ yX10_goFrom cX10_goFrom 7 none) (rmD (3 + 1 * rf)) (va_Pc [.ref (mO M), .int x1, .int x2, .int x3, .int x4] (MU M σ)) (Qm M none v) 0 0 (mAd M) := by
  intro rf
  induction rf with
  | zero => intro x1 x2 x3 x4 σ v hf; cases hf
  | succ rf ih =>
    intro x1 x2 x3 x4 σ v hf
    exact metg_goFrom (rf := rf) (fun a0 a1 a2 a3 σ v h => ih a0 a1 a2 a3 σ v h) hc hf
theorem mco_goFrom {K : KT} {M : MT} {cc : ByteArray} {nL pc dk : Nat} {L : List (Nat × Value)} {rest : List Value} {σ : MS} {v : MS} {n : Nat} {x1 : Int32} {x2 : Int32} {x3 : Int32} {x4 : Int32} (C : Kok K cc nL RX10) (B : MB K M) (dK : kR K = rmD dk) (hd : 67 + 1 ≤ dk) (hf : f_goFrom n 64 x1 x2 x3 x4 σ = some v) (hW : (rest.map fun v => v.category).sum ≤ 8) (dd : decode cc pc = .ok (.invokevirtual 385, 3)) (kk2 : XJ K nL (Wm K M v) (pc + 3) L (rest)) : XJ K nL (Wm K M σ) pc L (.int x4 :: .int x3 :: .int x2 :: .int x1 :: .ref (mO M) :: rest) :=
  m_callV (rest := rest) (v := none) [.int x1, .int x2, .int x3, .int x4] 4 rfl C B dK hd (Nat.le_of_ble_eq_true rfl) (lw_V q2318 q2320 qs96 q133 q2321) (by decide +kernel) (met_goFrom B.2 64 _ _ _ _ _ _ hf) rfl hW dd kk2
def f_layRoute (n : Nat) (x1 : Int32) (x2 : Int32) (σ : MS) : Option MS := ev (si σ 38 (-1 : Int32)) fun s1 => ev (si s1 37 (0 : Int32)) fun s2 => ev (sa s2 33 0 x1) fun s3 => (f_bribeAt n s3 x1).bind fun r4 => (f_goFrom n 64 (1 : Int32) ((1 : Int32) <<< (x1 &&& 31)) r4 x2 s3).bind fun r5 => some r5
set_option maxHeartbeats 4000000 in
theorem w_layRoute_E {K : KT} {M : MT} {τ : MS} (n : Nat) (C : Kok K cX10_layRoute 3 RX10) (B : MB K M) (hr : (kMe K).sig.returnType = none) (dK : kR K = rmD 68) (hQ : KQm K M none τ) (x1 : Int32) (x2 : Int32) (σ : MS) (hf : f_layRoute n x1 x2 σ = some τ) : XJ K 3 (Wm K M σ) 0 [(0, .ref (mO M)), (1, .int x1), (2, .int x2)] [] := by
  unfold f_layRoute at hf
  refine x_aload_n C dX10_layRoute_0 0 rfl ?_
  refine x_iconst (-1 : Int32) C dX10_layRoute_1 (by decide) ?_
  refine mp_38 C B dX10_layRoute_2 ?_
  obtain ⟨s1, es1, hf⟩ := pf_e hf
  refine m_ren es1 ?_
  refine x_aload_n C dX10_layRoute_5 0 rfl ?_
  refine x_iconst (0 : Int32) C dX10_layRoute_6 (by decide) ?_
  refine mp_37 C B dX10_layRoute_7 ?_
  obtain ⟨s2, es2, hf⟩ := pf_e hf
  refine m_ren es2 ?_
  refine x_aload_n C dX10_layRoute_10 0 rfl ?_
  refine mg_33 C B dX10_layRoute_11 ?_
  refine x_iconst (0 : Int32) C dX10_layRoute_14 (by decide) ?_
  refine x_iload_n C dX10_layRoute_15 1 rfl ?_
  refine msc_33 0 C B (by decide +kernel) dX10_layRoute_16 ?_
  obtain ⟨s3, es3, hf⟩ := pf_e hf
  refine m_ren es3 ?_
  refine x_aload_n C dX10_layRoute_17 0 rfl ?_
  refine x_iconst (1 : Int32) C dX10_layRoute_18 (by decide) ?_
  refine x_iconst (1 : Int32) C dX10_layRoute_19 (by decide) ?_
  refine x_iload_n C dX10_layRoute_20 1 rfl ?_
  refine x_ishl C dX10_layRoute_21 ?_
  refine x_aload_n C dX10_layRoute_22 0 rfl ?_
  refine x_iload_n C dX10_layRoute_23 1 rfl ?_
  obtain ⟨r4, er4, hf⟩ := pf_b hf
  refine mc_bribeAt C B dK (Nat.le_of_ble_eq_true rfl) er4 (Nat.le_of_ble_eq_true rfl) dX10_layRoute_24 ?_
  refine x_iload_n C dX10_layRoute_27 2 rfl ?_
  obtain ⟨r5, er5, hf⟩ := pf_b hf
  refine mco_goFrom C B dK (Nat.le_of_ble_eq_true rfl) er5 (Nat.le_of_ble_eq_true rfl) dX10_layRoute_28 ?_
  obtain rfl := Option.some.inj hf
  exact m_vret C hr hQ dX10_layRoute_31
theorem met_layRoute {M : MT} {v : MS} {n : Nat} {σ : MS} {x1 : Int32} {x2 : Int32} {l : Launch} (hc : (mCl M)[mCi M]? = some (RX10, TX10, 61)) (hf : f_layRoute n x1 x2 σ = some v) : Met l yX10_layRoute (ws_ yX10_layRoute cX10_layRoute 3 none) (rmD 68) (va_Pc [.ref (mO M), .int x1, .int x2] (MU M σ)) (Qm M none v) 0 0 (mAd M) :=
  m_met [.ref (mO M), .int x1, .int x2] (by decide) rfl (Nat.le_of_ble_eq_true rfl) hc (fun K hl hR hr C B hQ => w_layRoute_E _ C B hr hR hQ _ _ _ hf)
theorem mc_layRoute {K : KT} {M : MT} {cc : ByteArray} {nL pc dk : Nat} {L : List (Nat × Value)} {rest : List Value} {σ : MS} {v : MS} {n : Nat} {x1 : Int32} {x2 : Int32} (C : Kok K cc nL RX10) (B : MB K M) (dK : kR K = rmD dk) (hd : 68 + 1 ≤ dk) (hf : f_layRoute n x1 x2 σ = some v) (hW : (rest.map fun v => v.category).sum ≤ 8) (dd : decode cc pc = .ok (.invokevirtual 392, 3)) (kk2 : XJ K nL (Wm K M v) (pc + 3) L (rest)) : XJ K nL (Wm K M σ) pc L (.int x2 :: .int x1 :: .ref (mO M) :: rest) :=
  m_callV (rest := rest) (v := none) [.int x1, .int x2] 2 rfl C B dK hd (Nat.le_of_ble_eq_true rfl) (lw_V q2310 q2312 qs94 q133 q2313) (by decide +kernel) (met_layRoute B.2 hf) rfl hW dd kk2
def f_route_45 (n : Nat) : Nat → Int32 → MS → Option (Int32 × MS)
  | 0, _, _ => none
  | m + 1, x3, σ => if (8 : Int32) ≤ x3 then (some (gi σ 38, σ)) else (if inb x3 8 = true then if inb x3 8 = true then ev (sa σ 40 (Int32.toNatClampNeg x3) (ga σ 34 (Int32.toNatClampNeg x3))) fun s4 => f_route_45 n m (x3 + (1 : Int32)) s4 else none else none)
set_option maxHeartbeats 4000000 in
theorem w_route_45 {K : KT} {M : MT} {r : Int32} {τ : MS} (n : Nat) (C : Kok K cX10_route 4 RX10) (B : MB K M) (hr : (kMe K).sig.returnType = some .int) (dK : kR K = rmD 69) (hQ : KQm K M (some (.int r)) τ) : ∀ (m : Nat) (x3 : Int32) (σ : MS) (hf : f_route_45 n m x3 σ = some (r, τ)), XJ K 4 (Wm K M σ) 45 [(0, .ref (mO M)), (3, .int x3)] [] := by
  intro m
  induction m with
  | zero => intro x3 σ hf; cases hf
  | succ m ih =>
    intro x3 σ hf
    rw [f_route_45] at hf
    refine x_iload_n C dX10_route_45 1 rfl ?_
    refine x_bipush (8 : Int32) C dX10_route_46 (by decide) ?_
    refine x_icmp_ge (tgt := 69) C dX10_route_48 (by decide) (fun c1 => ?_) (fun c1 => ?_)
    · have hf := pf_t c1 hf
      refine x_aload_n C dX10_route_69 0 rfl ?_
      refine mg_38 C B dX10_route_70 ?_
      obtain ⟨rfl, rfl⟩ := Prod.mk.inj (Option.some.inj hf)
      exact m_iret C hr hQ dX10_route_73
    · have hf := pf_f c1 hf
      refine x_aload_n C dX10_route_51 0 rfl ?_
      refine mg_40 C B dX10_route_52 ?_
      refine x_iload_n C dX10_route_55 1 rfl ?_
      refine x_aload_n C dX10_route_56 0 rfl ?_
      refine mg_34 C B dX10_route_57 ?_
      refine x_iload_n C dX10_route_60 1 rfl ?_
      obtain ⟨h2, hf⟩ := pf_in hf
      refine ml_34 C B h2 dX10_route_61 ?_
      obtain ⟨h3, hf⟩ := pf_in hf
      refine ms_40 C B h3 dX10_route_62 ?_
      obtain ⟨s4, es4, hf⟩ := pf_e hf
      refine m_ren es4 ?_
      refine x_inc (c := (1 : Int32)) (L' := [(0, .ref (mO M)), (3, .int (x3 + (1 : Int32)))]) C dX10_route_63 1 rfl (by decide) (Nat.le_of_ble_eq_true rfl) [1, 0] rfl ?_
      refine x_goto (tgt := 45) C dX10_route_66 (by decide) ?_
      exact ih (x3 + (1 : Int32)) _ hf
def f_route (n : Nat) (x1 : Int32) (x2 : Int32) (σ : MS) : Option (Int32 × MS) := ev (si σ 0 (0 : Int32)) fun s1 => if (f_isSquare s1 x1) = 0 then (some ((-1 : Int32), s1)) else (if (f_isIn x2 (1 : Int32) (8 : Int32)) = 0 then (some ((-1 : Int32), s1)) else ((f_bribesAsTold n s1).bind fun r4 => (f_layRoute n x1 x2 r4).bind fun r5 => ev (si r5 41 (gi r5 37)) fun s6 => f_route_45 n n (0 : Int32) s6))
set_option maxHeartbeats 4000000 in
theorem w_route_E {K : KT} {M : MT} {r : Int32} {τ : MS} (n : Nat) (C : Kok K cX10_route 4 RX10) (B : MB K M) (hr : (kMe K).sig.returnType = some .int) (dK : kR K = rmD 69) (hQ : KQm K M (some (.int r)) τ) (x1 : Int32) (x2 : Int32) (σ : MS) (hf : f_route n x1 x2 σ = some (r, τ)) : XJ K 4 (Wm K M σ) 0 [(0, .ref (mO M)), (1, .int x1), (2, .int x2)] [] := by
  unfold f_route at hf
  refine x_aload_n C dX10_route_0 0 rfl ?_
  refine x_iconst (0 : Int32) C dX10_route_1 (by decide) ?_
  refine mp_0 C B dX10_route_2 ?_
  obtain ⟨s1, es1, hf⟩ := pf_e hf
  refine m_ren es1 ?_
  refine x_aload_n C dX10_route_5 0 rfl ?_
  refine x_iload_n C dX10_route_6 1 rfl ?_
  refine mc_isSquare C B dK (Nat.le_of_ble_eq_true rfl) rfl (Nat.le_of_ble_eq_true rfl) dX10_route_7 ?_
  refine x_if_eq (tgt := 23) C dX10_route_10 (by decide) (fun c2 => ?_) (fun c2 => ?_)
  · have hf := pf_t c2 hf
    refine x_iconst (-1 : Int32) C dX10_route_23 (by decide) ?_
    obtain ⟨rfl, rfl⟩ := Prod.mk.inj (Option.some.inj hf)
    exact m_iret C hr hQ dX10_route_24
  · have hf := pf_f c2 hf
    refine x_iload_n C dX10_route_13 2 rfl ?_
    refine x_iconst (1 : Int32) C dX10_route_14 (by decide) ?_
    refine x_bipush (8 : Int32) C dX10_route_15 (by decide) ?_
    refine mc_isIn C B dK (Nat.le_of_ble_eq_true rfl) rfl (Nat.le_of_ble_eq_true rfl) dX10_route_17 ?_
    refine x_if_ne (tgt := 25) C dX10_route_20 (by decide) (fun c3 => ?_) (fun c3 => ?_)
    · have hf := pf_f c3 hf
      refine x_aload_n C dX10_route_25 0 rfl ?_
      obtain ⟨r4, er4, hf⟩ := pf_b hf
      refine mc_bribesAsTold C B dK (Nat.le_of_ble_eq_true rfl) er4 (Nat.le_of_ble_eq_true rfl) dX10_route_26 ?_
      refine x_aload_n C dX10_route_29 0 rfl ?_
      refine x_iload_n C dX10_route_30 1 rfl ?_
      refine x_iload_n C dX10_route_31 2 rfl ?_
      obtain ⟨r5, er5, hf⟩ := pf_b hf
      refine mc_layRoute C B dK (Nat.le_of_ble_eq_true rfl) er5 (Nat.le_of_ble_eq_true rfl) dX10_route_32 ?_
      refine x_aload_n C dX10_route_35 0 rfl ?_
      refine x_aload_n C dX10_route_36 0 rfl ?_
      refine mg_37 C B dX10_route_37 ?_
      refine mp_41 C B dX10_route_40 ?_
      obtain ⟨s6, es6, hf⟩ := pf_e hf
      refine m_ren es6 ?_
      refine x_iconst (0 : Int32) C dX10_route_43 (by decide) ?_
      refine x_istore_n (L' := [(0, .ref (mO M)), (3, .int (0 : Int32))]) C dX10_route_44 (Nat.le_of_ble_eq_true rfl) [1, 0] rfl ?_
      exact w_route_45 n C B hr dK hQ n (0 : Int32) _ hf
    · have hf := pf_t c3 hf
      refine x_iconst (-1 : Int32) C dX10_route_23 (by decide) ?_
      obtain ⟨rfl, rfl⟩ := Prod.mk.inj (Option.some.inj hf)
      exact m_iret C hr hQ dX10_route_24
theorem met_route {M : MT} {v : (Int32 × MS)} {n : Nat} {σ : MS} {x1 : Int32} {x2 : Int32} {l : Launch} (hc : (mCl M)[mCi M]? = some (RX10, TX10, 61)) (hf : f_route n x1 x2 σ = some v) : Met l yX10_route (ws_ yX10_route cX10_route 4 (some .int)) (rmD 69) (va_Pc [.ref (mO M), .int x1, .int x2] (MU M σ)) (Qm M (some (.int v.1)) v.2) 0 0 (mAd M) :=
  m_met [.ref (mO M), .int x1, .int x2] (by decide) rfl (Nat.le_of_ble_eq_true rfl) hc (fun K hl hR hr C B hQ => w_route_E _ C B hr hR hQ _ _ _ hf)
def f_routeAt (x1 : Int32) (σ : MS) : Option (Int32 × MS) := ev (si σ 0 (0 : Int32)) fun s1 => if (f_isIn x1 (0 : Int32) ((gi s1 41) - (1 : Int32))) = 0 then (some ((-1 : Int32), s1)) else (if inb x1 8 = true then some (ga s1 40 (Int32.toNatClampNeg x1), s1) else none)
set_option maxHeartbeats 4000000 in
theorem w_routeAt_E {K : KT} {M : MT} {r : Int32} {τ : MS} (C : Kok K cX10_routeAt 2 RX10) (B : MB K M) (hr : (kMe K).sig.returnType = some .int) (dK : kR K = rmD 2) (hQ : KQm K M (some (.int r)) τ) (x1 : Int32) (σ : MS) (hf : f_routeAt x1 σ = some (r, τ)) : XJ K 2 (Wm K M σ) 0 [(0, .ref (mO M)), (1, .int x1)] [] := by
  unfold f_routeAt at hf
  refine x_aload_n C dX10_routeAt_0 0 rfl ?_
  refine x_iconst (0 : Int32) C dX10_routeAt_1 (by decide) ?_
  refine mp_0 C B dX10_routeAt_2 ?_
  obtain ⟨s1, es1, hf⟩ := pf_e hf
  refine m_ren es1 ?_
  refine x_iload_n C dX10_routeAt_5 1 rfl ?_
  refine x_iconst (0 : Int32) C dX10_routeAt_6 (by decide) ?_
  refine x_aload_n C dX10_routeAt_7 0 rfl ?_
  refine mg_41 C B dX10_routeAt_8 ?_
  refine x_iconst (1 : Int32) C dX10_routeAt_11 (by decide) ?_
  refine x_isub C dX10_routeAt_12 ?_
  refine mc_isIn C B dK (Nat.le_of_ble_eq_true rfl) rfl (Nat.le_of_ble_eq_true rfl) dX10_routeAt_13 ?_
  refine x_if_eq (tgt := 28) C dX10_routeAt_16 (by decide) (fun c2 => ?_) (fun c2 => ?_)
  · have hf := pf_t c2 hf
    refine x_iconst (-1 : Int32) C dX10_routeAt_28 (by decide) ?_
    obtain ⟨rfl, rfl⟩ := Prod.mk.inj (Option.some.inj hf)
    exact m_iret C hr hQ dX10_routeAt_29
  · have hf := pf_f c2 hf
    refine x_aload_n C dX10_routeAt_19 0 rfl ?_
    refine mg_40 C B dX10_routeAt_20 ?_
    refine x_iload_n C dX10_routeAt_23 1 rfl ?_
    obtain ⟨h3, hf⟩ := pf_in hf
    refine ml_40 C B h3 dX10_routeAt_24 ?_
    refine x_goto (tgt := 29) C dX10_routeAt_25 (by decide) ?_
    obtain ⟨rfl, rfl⟩ := Prod.mk.inj (Option.some.inj hf)
    exact m_iret C hr hQ dX10_routeAt_29
theorem met_routeAt {M : MT} {v : (Int32 × MS)} {σ : MS} {x1 : Int32} {l : Launch} (hc : (mCl M)[mCi M]? = some (RX10, TX10, 61)) (hf : f_routeAt x1 σ = some v) : Met l yX10_routeAt (ws_ yX10_routeAt cX10_routeAt 2 (some .int)) (rmD 2) (va_Pc [.ref (mO M), .int x1] (MU M σ)) (Qm M (some (.int v.1)) v.2) 0 0 (mAd M) :=
  m_met [.ref (mO M), .int x1] (by decide) rfl (Nat.le_of_ble_eq_true rfl) hc (fun K hl hR hr C B hQ => w_routeAt_E C B hr hR hQ _ _ hf)
def f_isOnRoute_2 (n : Nat) (σ : MS) : Nat → Int32 → Int32 → Option Int32
  | 0, _, _ => none
  | m + 1, x1, x2 => if (gi σ 37) ≤ x2 then (some (0 : Int32)) else (if inb x2 8 = true then if inb ((210 : Int32) + x1) 532 = true then if (ga σ 34 (Int32.toNatClampNeg x2)) = (ga σ 14 (Int32.toNatClampNeg ((210 : Int32) + x1))) then (some (1 : Int32)) else (f_isOnRoute_2 n σ m x1 (x2 + (1 : Int32))) else none else none)
set_option maxHeartbeats 4000000 in
theorem w_isOnRoute_2 {K : KT} {M : MT} {r : Int32} (n : Nat) (σ : MS) (C : Kok K cX10_isOnRoute 3 RX10) (B : MB K M) (hr : (kMe K).sig.returnType = some .boolean) (dK : kR K = rmD 1) (hQ : KQm K M (some (.int r)) σ) : ∀ (m : Nat) (x1 : Int32) (x2 : Int32) (hf : f_isOnRoute_2 n σ m x1 x2 = some r), XJ K 3 (Wm K M σ) 2 [(0, .ref (mO M)), (1, .int x1), (2, .int x2)] [] := by
  intro m
  induction m with
  | zero => intro x1 x2 hf; cases hf
  | succ m ih =>
    intro x1 x2 hf
    rw [f_isOnRoute_2] at hf
    refine x_iload_n C dX10_isOnRoute_2 2 rfl ?_
    refine x_aload_n C dX10_isOnRoute_3 0 rfl ?_
    refine mg_37 C B dX10_isOnRoute_4 ?_
    refine x_icmp_ge (tgt := 37) C dX10_isOnRoute_7 (by decide) (fun c1 => ?_) (fun c1 => ?_)
    · have hf := pf_t c1 hf
      refine x_iconst (0 : Int32) C dX10_isOnRoute_37 (by decide) ?_
      obtain rfl := Option.some.inj hf
      exact m_zret C hr (Or.inl rfl) hQ dX10_isOnRoute_38
    · have hf := pf_f c1 hf
      refine x_aload_n C dX10_isOnRoute_10 0 rfl ?_
      refine mg_34 C B dX10_isOnRoute_11 ?_
      refine x_iload_n C dX10_isOnRoute_14 2 rfl ?_
      obtain ⟨h2, hf⟩ := pf_in hf
      refine ml_34 C B h2 dX10_isOnRoute_15 ?_
      refine x_aload_n C dX10_isOnRoute_16 0 rfl ?_
      refine mg_14 C B dX10_isOnRoute_17 ?_
      refine x_sipush (210 : Int32) C dX10_isOnRoute_20 (by decide) ?_
      refine x_iload_n C dX10_isOnRoute_23 1 rfl ?_
      refine x_iadd C dX10_isOnRoute_24 ?_
      obtain ⟨h3, hf⟩ := pf_in hf
      refine ml_14 C B h3 dX10_isOnRoute_25 ?_
      refine x_icmp_ne (tgt := 31) C dX10_isOnRoute_26 (by decide) (fun c4 => ?_) (fun c4 => ?_)
      · have hf := pf_f c4 hf
        refine x_inc (c := (1 : Int32)) (L' := [(0, .ref (mO M)), (1, .int x1), (2, .int (x2 + (1 : Int32)))]) C dX10_isOnRoute_31 2 rfl (by decide) (Nat.le_of_ble_eq_true rfl) [1, 2, 0] rfl ?_
        refine x_goto (tgt := 2) C dX10_isOnRoute_34 (by decide) ?_
        exact ih x1 (x2 + (1 : Int32)) hf
      · have hf := pf_t c4 hf
        refine x_iconst (1 : Int32) C dX10_isOnRoute_29 (by decide) ?_
        obtain rfl := Option.some.inj hf
        exact m_zret C hr (Or.inr rfl) hQ dX10_isOnRoute_30
theorem bz_isOnRoute_2 {r : Int32} {n : Nat} {σ : MS} : ∀ (m : Nat) (x1 : Int32) (x2 : Int32) (hf : f_isOnRoute_2 n σ m x1 x2 = some r), r = 0 ∨ r = 1 := by
  intro m
  induction m with
  | zero => intro x1 x2 hf; cases hf
  | succ m ih =>
    intro x1 x2 hf
    rw [f_isOnRoute_2] at hf
    by_cases c1 : (gi σ 37) ≤ x2
    · have hf := pf_t c1 hf
      obtain rfl := Option.some.inj hf
      exact (Or.inl rfl)
    · have hf := pf_f c1 hf
      obtain ⟨h2, hf⟩ := pf_in hf
      obtain ⟨h3, hf⟩ := pf_in hf
      by_cases c4 : (ga σ 34 (Int32.toNatClampNeg x2)) = (ga σ 14 (Int32.toNatClampNeg ((210 : Int32) + x1)))
      · have hf := pf_t c4 hf
        obtain rfl := Option.some.inj hf
        exact (Or.inr rfl)
      · have hf := pf_f c4 hf
        exact ih x1 (x2 + (1 : Int32)) hf
def f_isOnRoute (n : Nat) (σ : MS) (x1 : Int32) : Option Int32 := f_isOnRoute_2 n σ n x1 (0 : Int32)
set_option maxHeartbeats 4000000 in
theorem w_isOnRoute_E {K : KT} {M : MT} {r : Int32} (n : Nat) (σ : MS) (C : Kok K cX10_isOnRoute 3 RX10) (B : MB K M) (hr : (kMe K).sig.returnType = some .boolean) (dK : kR K = rmD 1) (hQ : KQm K M (some (.int r)) σ) (x1 : Int32) (hf : f_isOnRoute n σ x1 = some r) : XJ K 3 (Wm K M σ) 0 [(0, .ref (mO M)), (1, .int x1)] [] := by
  unfold f_isOnRoute at hf
  refine x_iconst (0 : Int32) C dX10_isOnRoute_0 (by decide) ?_
  refine x_istore_n (L' := [(0, .ref (mO M)), (1, .int x1), (2, .int (0 : Int32))]) C dX10_isOnRoute_1 (Nat.le_of_ble_eq_true rfl) [1, 2, 0] rfl ?_
  exact w_isOnRoute_2 n σ C B hr dK hQ n x1 (0 : Int32) hf
theorem bz_isOnRoute_E {r : Int32} {n : Nat} {σ : MS} {x1 : Int32} (hf : f_isOnRoute n σ x1 = some r) : r = 0 ∨ r = 1 := by
  unfold f_isOnRoute at hf
  exact bz_isOnRoute_2 n x1 (0 : Int32) hf
theorem met_isOnRoute {M : MT} {v : Int32} {n : Nat} {σ : MS} {x1 : Int32} {l : Launch} (hc : (mCl M)[mCi M]? = some (RX10, TX10, 61)) (hf : f_isOnRoute n σ x1 = some v) : Met l yX10_isOnRoute (ws_ yX10_isOnRoute cX10_isOnRoute 3 (some .boolean)) (rmD 1) (va_Pc [.ref (mO M), .int x1] (MU M σ)) (Qm M (some (.int v)) σ) 0 0 (mAd M) :=
  m_met [.ref (mO M), .int x1] (by decide) rfl (Nat.le_of_ble_eq_true rfl) hc (fun K hl hR hr C B hQ => w_isOnRoute_E _ _ C B hr hR hQ _ hf)
theorem mc_isOnRoute {K : KT} {M : MT} {cc : ByteArray} {nL pc dk : Nat} {L : List (Nat × Value)} {rest : List Value} {σ : MS} {v : Int32} {n : Nat} {x1 : Int32} (C : Kok K cc nL RX10) (B : MB K M) (dK : kR K = rmD dk) (hd : 1 + 1 ≤ dk) (hf : f_isOnRoute n σ x1 = some v) (hW : (rest.map fun v => v.category).sum ≤ 8) (dd : decode cc pc = .ok (.invokevirtual 398, 3)) (kk2 : XJ K nL (Wm K M σ) (pc + 3) L ((.int v) :: rest)) : XJ K nL (Wm K M σ) pc L (.int x1 :: .ref (mO M) :: rest) :=
  m_callV (rest := rest) (v := (some (.int v))) [.int x1] 1 rfl C B dK hd (Nat.le_of_ble_eq_true rfl) (lw_V q2334 q2336 qs98 q133 q2337) (by decide +kernel) (met_isOnRoute B.2 hf) rfl hW dd kk2
def f_round_8 (n : Nat) : Nat → Int32 → MS → Option (Int32 × MS)
  | 0, _, _ => none
  | m + 1, x3, σ => if (ga σ 14 3) ≤ x3 then (some ((0 : Int32), σ)) else (if (f_isEvicted σ x3) = 0 then ((f_isOnRoute n σ x3).bind fun r3 => if r3 = 0 then (if inb ((218 : Int32) + x3) 532 = true then if inb x3 8 = true then if (ga σ 35 (Int32.toNatClampNeg x3)) < (ga σ 14 (Int32.toNatClampNeg ((218 : Int32) + x3))) then (if inb x3 8 = true then if inb x3 8 = true then ev (sa σ 35 (Int32.toNatClampNeg x3) ((ga σ 35 (Int32.toNatClampNeg x3)) + (1 : Int32))) fun s10 => some ((1 : Int32), s10) else none else none) else (f_round_8 n m (x3 + (1 : Int32)) σ) else none else none) else (f_round_8 n m (x3 + (1 : Int32)) σ)) else (f_round_8 n m (x3 + (1 : Int32)) σ))
set_option maxHeartbeats 4000000 in
theorem w_round_8 {K : KT} {M : MT} {r : Int32} {τ : MS} (n : Nat) (C : Kok K cX10_round 4 RX10) (B : MB K M) (hr : (kMe K).sig.returnType = some .boolean) (dK : kR K = rmD 69) (hQ : KQm K M (some (.int r)) τ) : ∀ (m : Nat) (x3 : Int32) (σ : MS) (hf : f_round_8 n m x3 σ = some (r, τ)), XJ K 4 (Wm K M σ) 8 [(0, .ref (mO M)), (3, .int x3)] [] := by
  intro m
  induction m with
  | zero => intro x3 σ hf; cases hf
  | succ m ih =>
    intro x3 σ hf
    rw [f_round_8] at hf
    refine x_iload_n C dX10_round_8 1 rfl ?_
    refine x_aload_n C dX10_round_9 0 rfl ?_
    refine mg_14 C B dX10_round_10 ?_
    refine x_iconst (3 : Int32) C dX10_round_13 (by decide) ?_
    refine mlc_14 3 C B (by decide +kernel) dX10_round_14 ?_
    refine x_icmp_ge (tgt := 74) C dX10_round_15 (by decide) (fun c1 => ?_) (fun c1 => ?_)
    · have hf := pf_t c1 hf
      refine x_iconst (0 : Int32) C dX10_round_74 (by decide) ?_
      obtain ⟨rfl, rfl⟩ := Prod.mk.inj (Option.some.inj hf)
      exact m_zret C hr (Or.inl rfl) hQ dX10_round_75
    · have hf := pf_f c1 hf
      refine x_aload_n C dX10_round_18 0 rfl ?_
      refine x_iload_n C dX10_round_19 1 rfl ?_
      refine mc_isEvicted C B dK (Nat.le_of_ble_eq_true rfl) rfl (Nat.le_of_ble_eq_true rfl) dX10_round_20 ?_
      refine x_if_ne (tgt := 68) C dX10_round_23 (by decide) (fun c2 => ?_) (fun c2 => ?_)
      · have hf := pf_f c2 hf
        refine x_inc (c := (1 : Int32)) (L' := [(0, .ref (mO M)), (3, .int (x3 + (1 : Int32)))]) C dX10_round_68 1 rfl (by decide) (Nat.le_of_ble_eq_true rfl) [1, 0] rfl ?_
        refine x_goto (tgt := 8) C dX10_round_71 (by decide) ?_
        exact ih (x3 + (1 : Int32)) _ hf
      · have hf := pf_t c2 hf
        refine x_aload_n C dX10_round_26 0 rfl ?_
        refine x_iload_n C dX10_round_27 1 rfl ?_
        obtain ⟨r3, er3, hf⟩ := pf_b hf
        refine mc_isOnRoute C B dK (Nat.le_of_ble_eq_true rfl) er3 (Nat.le_of_ble_eq_true rfl) dX10_round_28 ?_
        refine x_if_ne (tgt := 68) C dX10_round_31 (by decide) (fun c4 => ?_) (fun c4 => ?_)
        · have hf := pf_f c4 hf
          refine x_inc (c := (1 : Int32)) (L' := [(0, .ref (mO M)), (3, .int (x3 + (1 : Int32)))]) C dX10_round_68 1 rfl (by decide) (Nat.le_of_ble_eq_true rfl) [1, 0] rfl ?_
          refine x_goto (tgt := 8) C dX10_round_71 (by decide) ?_
          exact ih (x3 + (1 : Int32)) _ hf
        · have hf := pf_t c4 hf
          refine x_aload_n C dX10_round_34 0 rfl ?_
          refine mg_14 C B dX10_round_35 ?_
          refine x_sipush (218 : Int32) C dX10_round_38 (by decide) ?_
          refine x_iload_n C dX10_round_41 1 rfl ?_
          refine x_iadd C dX10_round_42 ?_
          obtain ⟨h5, hf⟩ := pf_in hf
          refine ml_14 C B h5 dX10_round_43 ?_
          refine x_aload_n C dX10_round_44 0 rfl ?_
          refine mg_35 C B dX10_round_45 ?_
          refine x_iload_n C dX10_round_48 1 rfl ?_
          obtain ⟨h6, hf⟩ := pf_in hf
          refine ml_35 C B h6 dX10_round_49 ?_
          refine x_icmp_gt (tgt := 56) C dX10_round_50 (by decide) (fun c7 => ?_) (fun c7 => ?_)
          · have hf := pf_t c7 hf
            refine x_aload_n C dX10_round_56 0 rfl ?_
            refine mg_35 C B dX10_round_57 ?_
            refine x_iload_n C dX10_round_60 1 rfl ?_
            refine x_dup2_11 C dX10_round_61 rfl rfl ?_
            obtain ⟨h8, hf⟩ := pf_in hf
            refine ml_35 C B h8 dX10_round_62 ?_
            refine x_iconst (1 : Int32) C dX10_round_63 (by decide) ?_
            refine x_iadd C dX10_round_64 ?_
            obtain ⟨h9, hf⟩ := pf_in hf
            refine ms_35 C B h9 dX10_round_65 ?_
            obtain ⟨s10, es10, hf⟩ := pf_e hf
            refine m_ren es10 ?_
            refine x_iconst (1 : Int32) C dX10_round_66 (by decide) ?_
            obtain ⟨rfl, rfl⟩ := Prod.mk.inj (Option.some.inj hf)
            exact m_zret C hr (Or.inr rfl) hQ dX10_round_67
          · have hf := pf_f c7 hf
            refine x_goto (tgt := 68) C dX10_round_53 (by decide) ?_
            refine x_inc (c := (1 : Int32)) (L' := [(0, .ref (mO M)), (3, .int (x3 + (1 : Int32)))]) C dX10_round_68 1 rfl (by decide) (Nat.le_of_ble_eq_true rfl) [1, 0] rfl ?_
            refine x_goto (tgt := 8) C dX10_round_71 (by decide) ?_
            exact ih (x3 + (1 : Int32)) _ hf
theorem bz_round_8 {r : Int32} {τ : MS} {n : Nat} : ∀ (m : Nat) (x3 : Int32) (σ : MS) (hf : f_round_8 n m x3 σ = some (r, τ)), r = 0 ∨ r = 1 := by
  intro m
  induction m with
  | zero => intro x3 σ hf; cases hf
  | succ m ih =>
    intro x3 σ hf
    rw [f_round_8] at hf
    by_cases c1 : (ga σ 14 3) ≤ x3
    · have hf := pf_t c1 hf
      obtain ⟨rfl, rfl⟩ := Prod.mk.inj (Option.some.inj hf)
      exact (Or.inl rfl)
    · have hf := pf_f c1 hf
      by_cases c2 : (f_isEvicted σ x3) = 0
      · have hf := pf_t c2 hf
        obtain ⟨r3, er3, hf⟩ := pf_b hf
        by_cases c4 : r3 = 0
        · have hf := pf_t c4 hf
          obtain ⟨h5, hf⟩ := pf_in hf
          obtain ⟨h6, hf⟩ := pf_in hf
          by_cases c7 : (ga σ 35 (Int32.toNatClampNeg x3)) < (ga σ 14 (Int32.toNatClampNeg ((218 : Int32) + x3)))
          · have hf := pf_t c7 hf
            obtain ⟨h8, hf⟩ := pf_in hf
            obtain ⟨h9, hf⟩ := pf_in hf
            obtain ⟨s10, es10, hf⟩ := pf_e hf
            obtain ⟨rfl, rfl⟩ := Prod.mk.inj (Option.some.inj hf)
            exact (Or.inr rfl)
          · have hf := pf_f c7 hf
            exact ih (x3 + (1 : Int32)) _ hf
        · have hf := pf_f c4 hf
          exact ih (x3 + (1 : Int32)) _ hf
      · have hf := pf_f c2 hf
        exact ih (x3 + (1 : Int32)) _ hf
def f_round (n : Nat) (x1 : Int32) (x2 : Int32) (σ : MS) : Option (Int32 × MS) := (f_layRoute n x1 x2 σ).bind fun r1 => f_round_8 n n (0 : Int32) r1
set_option maxHeartbeats 4000000 in
theorem w_round_E {K : KT} {M : MT} {r : Int32} {τ : MS} (n : Nat) (C : Kok K cX10_round 4 RX10) (B : MB K M) (hr : (kMe K).sig.returnType = some .boolean) (dK : kR K = rmD 69) (hQ : KQm K M (some (.int r)) τ) (x1 : Int32) (x2 : Int32) (σ : MS) (hf : f_round n x1 x2 σ = some (r, τ)) : XJ K 4 (Wm K M σ) 0 [(0, .ref (mO M)), (1, .int x1), (2, .int x2)] [] := by
  unfold f_round at hf
  refine x_aload_n C dX10_round_0 0 rfl ?_
  refine x_iload_n C dX10_round_1 1 rfl ?_
  refine x_iload_n C dX10_round_2 2 rfl ?_
  obtain ⟨r1, er1, hf⟩ := pf_b hf
  refine mc_layRoute C B dK (Nat.le_of_ble_eq_true rfl) er1 (Nat.le_of_ble_eq_true rfl) dX10_round_3 ?_
  refine x_iconst (0 : Int32) C dX10_round_6 (by decide) ?_
  refine x_istore_n (L' := [(0, .ref (mO M)), (3, .int (0 : Int32))]) C dX10_round_7 (Nat.le_of_ble_eq_true rfl) [1, 0] rfl ?_
  exact w_round_8 n C B hr dK hQ n (0 : Int32) _ hf
theorem bz_round_E {r : Int32} {τ : MS} {n : Nat} {x1 : Int32} {x2 : Int32} {σ : MS} (hf : f_round n x1 x2 σ = some (r, τ)) : r = 0 ∨ r = 1 := by
  unfold f_round at hf
  obtain ⟨r1, er1, hf⟩ := pf_b hf
  exact bz_round_8 n (0 : Int32) _ hf
theorem met_round {M : MT} {v : (Int32 × MS)} {n : Nat} {σ : MS} {x1 : Int32} {x2 : Int32} {l : Launch} (hc : (mCl M)[mCi M]? = some (RX10, TX10, 61)) (hf : f_round n x1 x2 σ = some v) : Met l yX10_round (ws_ yX10_round cX10_round 4 (some .boolean)) (rmD 69) (va_Pc [.ref (mO M), .int x1, .int x2] (MU M σ)) (Qm M (some (.int v.1)) v.2) 0 0 (mAd M) :=
  m_met [.ref (mO M), .int x1, .int x2] (by decide) rfl (Nat.le_of_ble_eq_true rfl) hc (fun K hl hR hr C B hQ => w_round_E _ C B hr hR hQ _ _ _ hf)
theorem mc_round {K : KT} {M : MT} {cc : ByteArray} {nL pc dk : Nat} {L : List (Nat × Value)} {rest : List Value} {σ : MS} {v : (Int32 × MS)} {n : Nat} {x1 : Int32} {x2 : Int32} (C : Kok K cc nL RX10) (B : MB K M) (dK : kR K = rmD dk) (hd : 69 + 1 ≤ dk) (hf : f_round n x1 x2 σ = some v) (hW : (rest.map fun v => v.category).sum ≤ 8) (dd : decode cc pc = .ok (.invokevirtual 401, 3)) (kk2 : XJ K nL (Wm K M v.2) (pc + 3) L ((.int v.1) :: rest)) : XJ K nL (Wm K M σ) pc L (.int x2 :: .int x1 :: .ref (mO M) :: rest) :=
  m_callV (rest := rest) (v := (some (.int v.1))) [.int x1, .int x2] 2 rfl C B dK hd (Nat.le_of_ble_eq_true rfl) (lw_V q2330 q2332 qs97 q133 q2333) (by decide +kernel) (met_round B.2 hf) rfl hW dd kk2
def f_bids_65 (n : Nat) : Nat → Int32 → Int32 → MS → Option (Int32 × MS)
  | 0, _, _, _ => none
  | m + 1, x3, x4, σ => if (8 : Int32) ≤ x4 then (some (x3, σ)) else (if inb x4 8 = true then if inb x4 8 = true then ev (sa σ 36 (Int32.toNatClampNeg x4) (ga σ 35 (Int32.toNatClampNeg x4))) fun s4 => f_bids_65 n m x3 (x4 + (1 : Int32)) s4 else none else none)
set_option maxHeartbeats 4000000 in
theorem w_bids_65 {K : KT} {M : MT} {r : Int32} {τ : MS} (n : Nat) (C : Kok K cX10_bids 5 RX10) (B : MB K M) (hr : (kMe K).sig.returnType = some .int) (dK : kR K = rmD 70) (hQ : KQm K M (some (.int r)) τ) : ∀ (m : Nat) (x3 : Int32) (x4 : Int32) (σ : MS) (hf : f_bids_65 n m x3 x4 σ = some (r, τ)), XJ K 5 (Wm K M σ) 65 [(0, .ref (mO M)), (3, .int x3), (4, .int x4)] [] := by
  intro m
  induction m with
  | zero => intro x3 x4 σ hf; cases hf
  | succ m ih =>
    intro x3 x4 σ hf
    rw [f_bids_65] at hf
    refine x_iload C dX10_bids_65 2 rfl ?_
    refine x_bipush (8 : Int32) C dX10_bids_67 (by decide) ?_
    refine x_icmp_ge (tgt := 92) C dX10_bids_69 (by decide) (fun c1 => ?_) (fun c1 => ?_)
    · have hf := pf_t c1 hf
      refine x_iload_n C dX10_bids_92 1 rfl ?_
      obtain ⟨rfl, rfl⟩ := Prod.mk.inj (Option.some.inj hf)
      exact m_iret C hr hQ dX10_bids_93
    · have hf := pf_f c1 hf
      refine x_aload_n C dX10_bids_72 0 rfl ?_
      refine mg_36 C B dX10_bids_73 ?_
      refine x_iload C dX10_bids_76 2 rfl ?_
      refine x_aload_n C dX10_bids_78 0 rfl ?_
      refine mg_35 C B dX10_bids_79 ?_
      refine x_iload C dX10_bids_82 2 rfl ?_
      obtain ⟨h2, hf⟩ := pf_in hf
      refine ml_35 C B h2 dX10_bids_84 ?_
      obtain ⟨h3, hf⟩ := pf_in hf
      refine ms_36 C B h3 dX10_bids_85 ?_
      obtain ⟨s4, es4, hf⟩ := pf_e hf
      refine m_ren es4 ?_
      refine x_inc (c := (1 : Int32)) (L' := [(0, .ref (mO M)), (3, .int x3), (4, .int (x4 + (1 : Int32)))]) C dX10_bids_86 2 rfl (by decide) (Nat.le_of_ble_eq_true rfl) [1, 2, 0] rfl ?_
      refine x_goto (tgt := 65) C dX10_bids_89 (by decide) ?_
      exact ih x3 (x4 + (1 : Int32)) _ hf
def f_bids_31 (n : Nat) : Nat → Int32 → Int32 → Int32 → MS → Option (Int32 × MS)
  | 0, _, _, _, _ => none
  | m + 1, x1, x2, x3, σ => (f_round n x1 x2 σ).bind fun r1 => if r1.1 = 0 then (ev (si r1.2 39 (ga r1.2 14 3)) fun s3 => f_bids_65 n n x3 (0 : Int32) s3) else (if (60 : Int32) ≤ x3 then (ev (si r1.2 39 (ga r1.2 14 3)) fun s5 => f_bids_65 n n x3 (0 : Int32) s5) else (f_bids_31 n m x1 x2 (x3 + (1 : Int32)) r1.2))
set_option maxHeartbeats 4000000 in
theorem w_bids_31 {K : KT} {M : MT} {r : Int32} {τ : MS} (n : Nat) (C : Kok K cX10_bids 5 RX10) (B : MB K M) (hr : (kMe K).sig.returnType = some .int) (dK : kR K = rmD 70) (hQ : KQm K M (some (.int r)) τ) : ∀ (m : Nat) (x1 : Int32) (x2 : Int32) (x3 : Int32) (σ : MS) (hf : f_bids_31 n m x1 x2 x3 σ = some (r, τ)), XJ K 5 (Wm K M σ) 31 [(0, .ref (mO M)), (1, .int x1), (2, .int x2), (3, .int x3)] [] := by
  intro m
  induction m with
  | zero => intro x1 x2 x3 σ hf; cases hf
  | succ m ih =>
    intro x1 x2 x3 σ hf
    rw [f_bids_31] at hf
    refine x_aload_n C dX10_bids_31 0 rfl ?_
    refine x_iload_n C dX10_bids_32 1 rfl ?_
    refine x_iload_n C dX10_bids_33 2 rfl ?_
    obtain ⟨r1, er1, hf⟩ := pf_b hf
    refine mc_round C B dK (Nat.le_of_ble_eq_true rfl) er1 (Nat.le_of_ble_eq_true rfl) dX10_bids_34 ?_
    refine x_if_eq (tgt := 52) C dX10_bids_37 (by decide) (fun c2 => ?_) (fun c2 => ?_)
    · have hf := pf_t c2 hf
      refine x_aload_n C dX10_bids_52 0 rfl ?_
      refine x_aload_n C dX10_bids_53 0 rfl ?_
      refine mg_14 C B dX10_bids_54 ?_
      refine x_iconst (3 : Int32) C dX10_bids_57 (by decide) ?_
      refine mlc_14 3 C B (by decide +kernel) dX10_bids_58 ?_
      refine mp_39 C B dX10_bids_59 ?_
      obtain ⟨s3, es3, hf⟩ := pf_e hf
      refine m_ren es3 ?_
      refine x_iconst (0 : Int32) C dX10_bids_62 (by decide) ?_
      refine x_istore (L' := [(0, .ref (mO M)), (3, .int x3), (4, .int (0 : Int32))]) C dX10_bids_63 (Nat.le_of_ble_eq_true rfl) [1, 4, 0] rfl ?_
      exact w_bids_65 n C B hr dK hQ n x3 (0 : Int32) _ hf
    · have hf := pf_f c2 hf
      refine x_iload_n C dX10_bids_40 3 rfl ?_
      refine x_bipush (60 : Int32) C dX10_bids_41 (by decide) ?_
      refine x_icmp_ge (tgt := 52) C dX10_bids_43 (by decide) (fun c4 => ?_) (fun c4 => ?_)
      · have hf := pf_t c4 hf
        refine x_aload_n C dX10_bids_52 0 rfl ?_
        refine x_aload_n C dX10_bids_53 0 rfl ?_
        refine mg_14 C B dX10_bids_54 ?_
        refine x_iconst (3 : Int32) C dX10_bids_57 (by decide) ?_
        refine mlc_14 3 C B (by decide +kernel) dX10_bids_58 ?_
        refine mp_39 C B dX10_bids_59 ?_
        obtain ⟨s5, es5, hf⟩ := pf_e hf
        refine m_ren es5 ?_
        refine x_iconst (0 : Int32) C dX10_bids_62 (by decide) ?_
        refine x_istore (L' := [(0, .ref (mO M)), (3, .int x3), (4, .int (0 : Int32))]) C dX10_bids_63 (Nat.le_of_ble_eq_true rfl) [1, 4, 0] rfl ?_
        exact w_bids_65 n C B hr dK hQ n x3 (0 : Int32) _ hf
      · have hf := pf_f c4 hf
        refine x_inc (c := (1 : Int32)) (L' := [(0, .ref (mO M)), (1, .int x1), (2, .int x2), (3, .int (x3 + (1 : Int32)))]) C dX10_bids_46 3 rfl (by decide) (Nat.le_of_ble_eq_true rfl) [1, 2, 3, 0] rfl ?_
        refine x_goto (tgt := 31) C dX10_bids_49 (by decide) ?_
        exact ih x1 x2 (x3 + (1 : Int32)) _ hf
def f_bids (n : Nat) (x1 : Int32) (x2 : Int32) (σ : MS) : Option (Int32 × MS) := ev (si σ 0 (0 : Int32)) fun s1 => if (f_isSquare s1 x1) = 0 then (some ((-1 : Int32), s1)) else (if (f_isIn x2 (1 : Int32) (8 : Int32)) = 0 then (some ((-1 : Int32), s1)) else ((f_bribesAsTold n s1).bind fun r4 => f_bids_31 n n x1 x2 (1 : Int32) r4))
set_option maxHeartbeats 4000000 in
theorem w_bids_E {K : KT} {M : MT} {r : Int32} {τ : MS} (n : Nat) (C : Kok K cX10_bids 5 RX10) (B : MB K M) (hr : (kMe K).sig.returnType = some .int) (dK : kR K = rmD 70) (hQ : KQm K M (some (.int r)) τ) (x1 : Int32) (x2 : Int32) (σ : MS) (hf : f_bids n x1 x2 σ = some (r, τ)) : XJ K 5 (Wm K M σ) 0 [(0, .ref (mO M)), (1, .int x1), (2, .int x2)] [] := by
  unfold f_bids at hf
  refine x_aload_n C dX10_bids_0 0 rfl ?_
  refine x_iconst (0 : Int32) C dX10_bids_1 (by decide) ?_
  refine mp_0 C B dX10_bids_2 ?_
  obtain ⟨s1, es1, hf⟩ := pf_e hf
  refine m_ren es1 ?_
  refine x_aload_n C dX10_bids_5 0 rfl ?_
  refine x_iload_n C dX10_bids_6 1 rfl ?_
  refine mc_isSquare C B dK (Nat.le_of_ble_eq_true rfl) rfl (Nat.le_of_ble_eq_true rfl) dX10_bids_7 ?_
  refine x_if_eq (tgt := 23) C dX10_bids_10 (by decide) (fun c2 => ?_) (fun c2 => ?_)
  · have hf := pf_t c2 hf
    refine x_iconst (-1 : Int32) C dX10_bids_23 (by decide) ?_
    obtain ⟨rfl, rfl⟩ := Prod.mk.inj (Option.some.inj hf)
    exact m_iret C hr hQ dX10_bids_24
  · have hf := pf_f c2 hf
    refine x_iload_n C dX10_bids_13 2 rfl ?_
    refine x_iconst (1 : Int32) C dX10_bids_14 (by decide) ?_
    refine x_bipush (8 : Int32) C dX10_bids_15 (by decide) ?_
    refine mc_isIn C B dK (Nat.le_of_ble_eq_true rfl) rfl (Nat.le_of_ble_eq_true rfl) dX10_bids_17 ?_
    refine x_if_ne (tgt := 25) C dX10_bids_20 (by decide) (fun c3 => ?_) (fun c3 => ?_)
    · have hf := pf_f c3 hf
      refine x_aload_n C dX10_bids_25 0 rfl ?_
      obtain ⟨r4, er4, hf⟩ := pf_b hf
      refine mc_bribesAsTold C B dK (Nat.le_of_ble_eq_true rfl) er4 (Nat.le_of_ble_eq_true rfl) dX10_bids_26 ?_
      refine x_iconst (1 : Int32) C dX10_bids_29 (by decide) ?_
      refine x_istore_n (L' := [(0, .ref (mO M)), (1, .int x1), (2, .int x2), (3, .int (1 : Int32))]) C dX10_bids_30 (Nat.le_of_ble_eq_true rfl) [1, 2, 3, 0] rfl ?_
      exact w_bids_31 n C B hr dK hQ n x1 x2 (1 : Int32) _ hf
    · have hf := pf_t c3 hf
      refine x_iconst (-1 : Int32) C dX10_bids_23 (by decide) ?_
      obtain ⟨rfl, rfl⟩ := Prod.mk.inj (Option.some.inj hf)
      exact m_iret C hr hQ dX10_bids_24
theorem met_bids {M : MT} {v : (Int32 × MS)} {n : Nat} {σ : MS} {x1 : Int32} {x2 : Int32} {l : Launch} (hc : (mCl M)[mCi M]? = some (RX10, TX10, 61)) (hf : f_bids n x1 x2 σ = some v) : Met l yX10_bids (ws_ yX10_bids cX10_bids 5 (some .int)) (rmD 70) (va_Pc [.ref (mO M), .int x1, .int x2] (MU M σ)) (Qm M (some (.int v.1)) v.2) 0 0 (mAd M) :=
  m_met [.ref (mO M), .int x1, .int x2] (by decide) rfl (Nat.le_of_ble_eq_true rfl) hc (fun K hl hR hr C B hQ => w_bids_E _ C B hr hR hQ _ _ _ hf)
def f_bid (x1 : Int32) (σ : MS) : Option (Int32 × MS) := ev (si σ 0 (0 : Int32)) fun s1 => if (f_isIn x1 (0 : Int32) ((gi s1 39) - (1 : Int32))) = 0 then (some ((-1 : Int32), s1)) else (if inb x1 8 = true then some (ga s1 36 (Int32.toNatClampNeg x1), s1) else none)
set_option maxHeartbeats 4000000 in
theorem w_bid_E {K : KT} {M : MT} {r : Int32} {τ : MS} (C : Kok K cX10_bid 2 RX10) (B : MB K M) (hr : (kMe K).sig.returnType = some .int) (dK : kR K = rmD 2) (hQ : KQm K M (some (.int r)) τ) (x1 : Int32) (σ : MS) (hf : f_bid x1 σ = some (r, τ)) : XJ K 2 (Wm K M σ) 0 [(0, .ref (mO M)), (1, .int x1)] [] := by
  unfold f_bid at hf
  refine x_aload_n C dX10_bid_0 0 rfl ?_
  refine x_iconst (0 : Int32) C dX10_bid_1 (by decide) ?_
  refine mp_0 C B dX10_bid_2 ?_
  obtain ⟨s1, es1, hf⟩ := pf_e hf
  refine m_ren es1 ?_
  refine x_iload_n C dX10_bid_5 1 rfl ?_
  refine x_iconst (0 : Int32) C dX10_bid_6 (by decide) ?_
  refine x_aload_n C dX10_bid_7 0 rfl ?_
  refine mg_39 C B dX10_bid_8 ?_
  refine x_iconst (1 : Int32) C dX10_bid_11 (by decide) ?_
  refine x_isub C dX10_bid_12 ?_
  refine mc_isIn C B dK (Nat.le_of_ble_eq_true rfl) rfl (Nat.le_of_ble_eq_true rfl) dX10_bid_13 ?_
  refine x_if_eq (tgt := 28) C dX10_bid_16 (by decide) (fun c2 => ?_) (fun c2 => ?_)
  · have hf := pf_t c2 hf
    refine x_iconst (-1 : Int32) C dX10_bid_28 (by decide) ?_
    obtain ⟨rfl, rfl⟩ := Prod.mk.inj (Option.some.inj hf)
    exact m_iret C hr hQ dX10_bid_29
  · have hf := pf_f c2 hf
    refine x_aload_n C dX10_bid_19 0 rfl ?_
    refine mg_36 C B dX10_bid_20 ?_
    refine x_iload_n C dX10_bid_23 1 rfl ?_
    obtain ⟨h3, hf⟩ := pf_in hf
    refine ml_36 C B h3 dX10_bid_24 ?_
    refine x_goto (tgt := 29) C dX10_bid_25 (by decide) ?_
    obtain ⟨rfl, rfl⟩ := Prod.mk.inj (Option.some.inj hf)
    exact m_iret C hr hQ dX10_bid_29
theorem met_bid {M : MT} {v : (Int32 × MS)} {σ : MS} {x1 : Int32} {l : Launch} (hc : (mCl M)[mCi M]? = some (RX10, TX10, 61)) (hf : f_bid x1 σ = some v) : Met l yX10_bid (ws_ yX10_bid cX10_bid 2 (some .int)) (rmD 2) (va_Pc [.ref (mO M), .int x1] (MU M σ)) (Qm M (some (.int v.1)) v.2) 0 0 (mAd M) :=
  m_met [.ref (mO M), .int x1] (by decide) rfl (Nat.le_of_ble_eq_true rfl) hc (fun K hl hR hr C B hQ => w_bid_E C B hr hR hQ _ _ hf)
def f_cure_184 (n : Nat) (k43 : Int32 → Int32 → Int32 → Int32 → MS → Option (Int32 × MS)) (k57 : Int32 → Int32 → Int32 → Int32 → Int32 → MS → Option (Int32 × MS)) (k94 : Int32 → Int32 → Int32 → Int32 → Int32 → Int32 → MS → Option (Int32 × MS)) (x1 : Int32) (x2 : Int32) (x3 : Int32) (x4 : Int32) (x5 : Int32) (x7 : Int32) (x8 : Int32) (y1 : Int32) (y2 : Int32) (y3 : Int32) (y4 : Int32) (σ : MS) : Option (Int32 × MS) := (f_yieldOf n σ y1 y2 y3 y4 (0 : Int32)).bind fun r1 => if inb ((6 : Int32) + x5) 532 = true then if ((5040 : Int32) * (ga σ 14 (Int32.toNatClampNeg ((6 : Int32) + x5)))) ≤ r1 then (ev (si σ 42 x7) fun s4 => ev (si s4 43 x4) fun s5 => ev (si s5 44 x5) fun s6 => k94 x1 x8 x3 x4 x5 (x7 + (1 : Int32)) s6) else (k94 x1 x2 x3 x4 x5 (x7 + (1 : Int32)) σ) else none
set_option maxHeartbeats 4000000 in
theorem w_cure_184 {K : KT} {M : MT} {r : Int32} {τ : MS} (n : Nat) (k43 : Int32 → Int32 → Int32 → Int32 → MS → Option (Int32 × MS)) (k57 : Int32 → Int32 → Int32 → Int32 → Int32 → MS → Option (Int32 × MS)) (k94 : Int32 → Int32 → Int32 → Int32 → Int32 → Int32 → MS → Option (Int32 × MS)) (C : Kok K cX10_cure 9 RX10) (B : MB K M) (hr : (kMe K).sig.returnType = some .int) (dK : kR K = rmD 3) (hQ : KQm K M (some (.int r)) τ)  (hk43 : ∀ (x1 : Int32) (x2 : Int32) (x3 : Int32) (x4 : Int32) (σ : MS), k43 x1 x2 x3 x4 σ = some (r, τ) → XJ K 9 (Wm K M σ) 43 [(0, .ref (mO M)), (1, .int x1), (2, .int x2), (3, .int x3), (4, .int x4)] []) (hk57 : ∀ (x1 : Int32) (x2 : Int32) (x3 : Int32) (x4 : Int32) (x5 : Int32) (σ : MS), k57 x1 x2 x3 x4 x5 σ = some (r, τ) → XJ K 9 (Wm K M σ) 57 [(0, .ref (mO M)), (1, .int x1), (2, .int x2), (3, .int x3), (4, .int x4), (5, .int x5)] []) (hk94 : ∀ (x1 : Int32) (x2 : Int32) (x3 : Int32) (x4 : Int32) (x5 : Int32) (x7 : Int32) (σ : MS), k94 x1 x2 x3 x4 x5 x7 σ = some (r, τ) → XJ K 9 (Wm K M σ) 94 [(0, .ref (mO M)), (1, .int x1), (2, .int x2), (3, .int x3), (4, .int x4), (5, .int x5), (7, .int x7)] []) (x1 : Int32) (x2 : Int32) (x3 : Int32) (x4 : Int32) (x5 : Int32) (x7 : Int32) (x8 : Int32) (y1 : Int32) (y2 : Int32) (y3 : Int32) (y4 : Int32) (σ : MS) (hf : f_cure_184 n k43 k57 k94 x1 x2 x3 x4 x5 x7 x8 y1 y2 y3 y4 σ = some (r, τ)) : XJ K 9 (Wm K M σ) 184 [(0, .ref (mO M)), (1, .int x1), (2, .int x2), (3, .int x3), (4, .int x4), (5, .int x5), (7, .int x7), (8, .int x8)] [.int y4, .int y3, .int y2, .int y1, .ref (mO M)] := by
  unfold f_cure_184 at hf
  refine x_iconst (0 : Int32) C dX10_cure_184 (by decide) ?_
  obtain ⟨r1, er1, hf⟩ := pf_b hf
  refine mc_yieldOf C B dK (Nat.le_of_ble_eq_true rfl) er1 (Nat.le_of_ble_eq_true rfl) dX10_cure_185 ?_
  refine x_sipush (5040 : Int32) C dX10_cure_188 (by decide) ?_
  refine x_aload_n C dX10_cure_191 0 rfl ?_
  refine mg_14 C B dX10_cure_192 ?_
  refine x_bipush (6 : Int32) C dX10_cure_195 (by decide) ?_
  refine x_iload C dX10_cure_197 5 rfl ?_
  refine x_iadd C dX10_cure_199 ?_
  obtain ⟨h2, hf⟩ := pf_in hf
  refine ml_14 C B h2 dX10_cure_200 ?_
  refine x_imul C dX10_cure_201 ?_
  refine x_icmp_ge (tgt := 208) C dX10_cure_202 (by decide) (fun c3 => ?_) (fun c3 => ?_)
  · have hf := pf_t c3 hf
    refine x_iload C dX10_cure_208 7 rfl ?_
    refine x_istore_n (L' := [(0, .ref (mO M)), (1, .int x1), (2, .int x8), (3, .int x3), (4, .int x4), (5, .int x5), (7, .int x7)]) C dX10_cure_210 (Nat.le_of_ble_eq_true rfl) [1, 2, 0, 3, 4, 5, 6] rfl ?_
    refine x_aload_n C dX10_cure_211 0 rfl ?_
    refine x_iload C dX10_cure_212 6 rfl ?_
    refine mp_42 C B dX10_cure_214 ?_
    obtain ⟨s4, es4, hf⟩ := pf_e hf
    refine m_ren es4 ?_
    refine x_aload_n C dX10_cure_217 0 rfl ?_
    refine x_iload C dX10_cure_218 4 rfl ?_
    refine mp_43 C B dX10_cure_220 ?_
    obtain ⟨s5, es5, hf⟩ := pf_e hf
    refine m_ren es5 ?_
    refine x_aload_n C dX10_cure_223 0 rfl ?_
    refine x_iload C dX10_cure_224 5 rfl ?_
    refine mp_44 C B dX10_cure_226 ?_
    obtain ⟨s6, es6, hf⟩ := pf_e hf
    refine m_ren es6 ?_
    refine x_inc (c := (1 : Int32)) (L' := [(0, .ref (mO M)), (1, .int x1), (2, .int x8), (3, .int x3), (4, .int x4), (5, .int x5), (7, .int (x7 + (1 : Int32)))]) C dX10_cure_229 6 rfl (by decide) (Nat.le_of_ble_eq_true rfl) [1, 2, 3, 4, 5, 6, 0] rfl ?_
    refine x_goto (tgt := 94) C dX10_cure_232 (by decide) ?_
    exact hk94 x1 x8 x3 x4 x5 (x7 + (1 : Int32)) _ hf
  · have hf := pf_f c3 hf
    refine x_goto (tgt := 229) C dX10_cure_205 (by decide) ?_
    refine x_inc (c := (1 : Int32)) (L' := [(0, .ref (mO M)), (1, .int x1), (2, .int x2), (3, .int x3), (4, .int x4), (5, .int x5), (7, .int (x7 + (1 : Int32)))]) C dX10_cure_229 6 rfl (by decide) (Nat.le_of_ble_eq_true rfl) [1, 2, 3, 4, 5, 6, 0] rfl ?_
    refine x_goto (tgt := 94) C dX10_cure_232 (by decide) ?_
    exact hk94 x1 x2 x3 x4 x5 (x7 + (1 : Int32)) _ hf
def f_cure_155 (n : Nat) (k43 : Int32 → Int32 → Int32 → Int32 → MS → Option (Int32 × MS)) (k57 : Int32 → Int32 → Int32 → Int32 → Int32 → MS → Option (Int32 × MS)) (k94 : Int32 → Int32 → Int32 → Int32 → Int32 → Int32 → MS → Option (Int32 × MS)) (x1 : Int32) (x2 : Int32) (x3 : Int32) (x4 : Int32) (x5 : Int32) (x7 : Int32) (y0 : Int32) (y1 : Int32) (σ : MS) : Option (Int32 × MS) := ev (y0 + y1) fun v1 => if x2 ≤ v1 then (k94 x1 x2 x3 x4 x5 (x7 + (1 : Int32)) σ) else (if x3 = 0 then (f_cure_184 n k43 k57 k94 x1 x2 x3 x4 x5 x7 v1 x1 x5 x4 (0 : Int32) σ) else (if x7 = 0 then (f_cure_184 n k43 k57 k94 x1 x2 x3 x4 x5 x7 v1 x1 x5 x4 (1 : Int32) σ) else (f_cure_184 n k43 k57 k94 x1 x2 x3 x4 x5 x7 v1 x1 x5 x4 (0 : Int32) σ)))
set_option maxHeartbeats 4000000 in
theorem w_cure_155 {K : KT} {M : MT} {r : Int32} {τ : MS} (n : Nat) (k43 : Int32 → Int32 → Int32 → Int32 → MS → Option (Int32 × MS)) (k57 : Int32 → Int32 → Int32 → Int32 → Int32 → MS → Option (Int32 × MS)) (k94 : Int32 → Int32 → Int32 → Int32 → Int32 → Int32 → MS → Option (Int32 × MS)) (C : Kok K cX10_cure 9 RX10) (B : MB K M) (hr : (kMe K).sig.returnType = some .int) (dK : kR K = rmD 3) (hQ : KQm K M (some (.int r)) τ)  (hk43 : ∀ (x1 : Int32) (x2 : Int32) (x3 : Int32) (x4 : Int32) (σ : MS), k43 x1 x2 x3 x4 σ = some (r, τ) → XJ K 9 (Wm K M σ) 43 [(0, .ref (mO M)), (1, .int x1), (2, .int x2), (3, .int x3), (4, .int x4)] []) (hk57 : ∀ (x1 : Int32) (x2 : Int32) (x3 : Int32) (x4 : Int32) (x5 : Int32) (σ : MS), k57 x1 x2 x3 x4 x5 σ = some (r, τ) → XJ K 9 (Wm K M σ) 57 [(0, .ref (mO M)), (1, .int x1), (2, .int x2), (3, .int x3), (4, .int x4), (5, .int x5)] []) (hk94 : ∀ (x1 : Int32) (x2 : Int32) (x3 : Int32) (x4 : Int32) (x5 : Int32) (x7 : Int32) (σ : MS), k94 x1 x2 x3 x4 x5 x7 σ = some (r, τ) → XJ K 9 (Wm K M σ) 94 [(0, .ref (mO M)), (1, .int x1), (2, .int x2), (3, .int x3), (4, .int x4), (5, .int x5), (7, .int x7)] []) (x1 : Int32) (x2 : Int32) (x3 : Int32) (x4 : Int32) (x5 : Int32) (x7 : Int32) (y0 : Int32) (y1 : Int32) (σ : MS) (hf : f_cure_155 n k43 k57 k94 x1 x2 x3 x4 x5 x7 y0 y1 σ = some (r, τ)) : XJ K 9 (Wm K M σ) 155 [(0, .ref (mO M)), (1, .int x1), (2, .int x2), (3, .int x3), (4, .int x4), (5, .int x5), (7, .int x7)] [.int y1, .int y0] := by
  unfold f_cure_155 at hf
  refine x_iadd C dX10_cure_155 ?_
  obtain ⟨v1, ev1, hf⟩ := pf_e hf
  refine x_topir ev1 ?_
  refine x_istore (L' := [(0, .ref (mO M)), (1, .int x1), (2, .int x2), (3, .int x3), (4, .int x4), (5, .int x5), (7, .int x7), (8, .int v1)]) C dX10_cure_156 (Nat.le_of_ble_eq_true rfl) [1, 2, 3, 4, 5, 6, 7, 0] rfl ?_
  refine x_iload C dX10_cure_158 7 rfl ?_
  refine x_iload_n C dX10_cure_160 2 rfl ?_
  refine x_icmp_ge (tgt := 229) C dX10_cure_161 (by decide) (fun c2 => ?_) (fun c2 => ?_)
  · have hf := pf_t c2 hf
    refine x_inc (c := (1 : Int32)) (L' := [(0, .ref (mO M)), (1, .int x1), (2, .int x2), (3, .int x3), (4, .int x4), (5, .int x5), (7, .int (x7 + (1 : Int32)))]) C dX10_cure_229 6 rfl (by decide) (Nat.le_of_ble_eq_true rfl) [1, 2, 3, 4, 5, 6, 0] rfl ?_
    refine x_goto (tgt := 94) C dX10_cure_232 (by decide) ?_
    exact hk94 x1 x2 x3 x4 x5 (x7 + (1 : Int32)) _ hf
  · have hf := pf_f c2 hf
    refine x_aload_n C dX10_cure_164 0 rfl ?_
    refine x_iload_n C dX10_cure_165 1 rfl ?_
    refine x_iload C dX10_cure_166 5 rfl ?_
    refine x_iload C dX10_cure_168 4 rfl ?_
    refine x_iload_n C dX10_cure_170 3 rfl ?_
    refine x_if_eq (tgt := 183) C dX10_cure_171 (by decide) (fun c3 => ?_) (fun c3 => ?_)
    · have hf := pf_t c3 hf
      refine x_iconst (0 : Int32) C dX10_cure_183 (by decide) ?_
      exact w_cure_184 n _ _ _ C B hr dK hQ hk43 hk57 hk94 x1 x2 x3 x4 x5 x7 v1 x1 x5 x4 (0 : Int32) _ hf
    · have hf := pf_f c3 hf
      refine x_iload C dX10_cure_174 6 rfl ?_
      refine x_if_ne (tgt := 183) C dX10_cure_176 (by decide) (fun c4 => ?_) (fun c4 => ?_)
      · have hf := pf_f c4 hf
        refine x_iconst (0 : Int32) C dX10_cure_183 (by decide) ?_
        exact w_cure_184 n _ _ _ C B hr dK hQ hk43 hk57 hk94 x1 x2 x3 x4 x5 x7 v1 x1 x5 x4 (0 : Int32) _ hf
      · have hf := pf_t c4 hf
        refine x_iconst (1 : Int32) C dX10_cure_179 (by decide) ?_
        refine x_goto (tgt := 184) C dX10_cure_180 (by decide) ?_
        exact w_cure_184 n _ _ _ C B hr dK hQ hk43 hk57 hk94 x1 x2 x3 x4 x5 x7 v1 x1 x5 x4 (1 : Int32) _ hf
def f_cure_133 (n : Nat) (k43 : Int32 → Int32 → Int32 → Int32 → MS → Option (Int32 × MS)) (k57 : Int32 → Int32 → Int32 → Int32 → Int32 → MS → Option (Int32 × MS)) (k94 : Int32 → Int32 → Int32 → Int32 → Int32 → Int32 → MS → Option (Int32 × MS)) (x1 : Int32) (x2 : Int32) (x3 : Int32) (x4 : Int32) (x5 : Int32) (x7 : Int32) (y0 : Int32) (y1 : Int32) (σ : MS) : Option (Int32 × MS) := if inb ((210 : Int32) + x1) 532 = true then if x5 = (ga σ 14 (Int32.toNatClampNeg ((210 : Int32) + x1))) then (f_cure_155 n k43 k57 k94 x1 x2 x3 x4 x5 x7 (y0 + y1) (0 : Int32) σ) else (f_cure_155 n k43 k57 k94 x1 x2 x3 x4 x5 x7 (y0 + y1) (8 : Int32) σ) else none
set_option maxHeartbeats 4000000 in
theorem w_cure_133 {K : KT} {M : MT} {r : Int32} {τ : MS} (n : Nat) (k43 : Int32 → Int32 → Int32 → Int32 → MS → Option (Int32 × MS)) (k57 : Int32 → Int32 → Int32 → Int32 → Int32 → MS → Option (Int32 × MS)) (k94 : Int32 → Int32 → Int32 → Int32 → Int32 → Int32 → MS → Option (Int32 × MS)) (C : Kok K cX10_cure 9 RX10) (B : MB K M) (hr : (kMe K).sig.returnType = some .int) (dK : kR K = rmD 3) (hQ : KQm K M (some (.int r)) τ)  (hk43 : ∀ (x1 : Int32) (x2 : Int32) (x3 : Int32) (x4 : Int32) (σ : MS), k43 x1 x2 x3 x4 σ = some (r, τ) → XJ K 9 (Wm K M σ) 43 [(0, .ref (mO M)), (1, .int x1), (2, .int x2), (3, .int x3), (4, .int x4)] []) (hk57 : ∀ (x1 : Int32) (x2 : Int32) (x3 : Int32) (x4 : Int32) (x5 : Int32) (σ : MS), k57 x1 x2 x3 x4 x5 σ = some (r, τ) → XJ K 9 (Wm K M σ) 57 [(0, .ref (mO M)), (1, .int x1), (2, .int x2), (3, .int x3), (4, .int x4), (5, .int x5)] []) (hk94 : ∀ (x1 : Int32) (x2 : Int32) (x3 : Int32) (x4 : Int32) (x5 : Int32) (x7 : Int32) (σ : MS), k94 x1 x2 x3 x4 x5 x7 σ = some (r, τ) → XJ K 9 (Wm K M σ) 94 [(0, .ref (mO M)), (1, .int x1), (2, .int x2), (3, .int x3), (4, .int x4), (5, .int x5), (7, .int x7)] []) (x1 : Int32) (x2 : Int32) (x3 : Int32) (x4 : Int32) (x5 : Int32) (x7 : Int32) (y0 : Int32) (y1 : Int32) (σ : MS) (hf : f_cure_133 n k43 k57 k94 x1 x2 x3 x4 x5 x7 y0 y1 σ = some (r, τ)) : XJ K 9 (Wm K M σ) 133 [(0, .ref (mO M)), (1, .int x1), (2, .int x2), (3, .int x3), (4, .int x4), (5, .int x5), (7, .int x7)] [.int y1, .int y0] := by
  unfold f_cure_133 at hf
  refine x_iadd C dX10_cure_133 ?_
  refine x_iload C dX10_cure_134 5 rfl ?_
  refine x_aload_n C dX10_cure_136 0 rfl ?_
  refine mg_14 C B dX10_cure_137 ?_
  refine x_sipush (210 : Int32) C dX10_cure_140 (by decide) ?_
  refine x_iload_n C dX10_cure_143 1 rfl ?_
  refine x_iadd C dX10_cure_144 ?_
  obtain ⟨h1, hf⟩ := pf_in hf
  refine ml_14 C B h1 dX10_cure_145 ?_
  refine x_icmp_ne (tgt := 153) C dX10_cure_146 (by decide) (fun c2 => ?_) (fun c2 => ?_)
  · have hf := pf_f c2 hf
    refine x_bipush (8 : Int32) C dX10_cure_153 (by decide) ?_
    exact w_cure_155 n _ _ _ C B hr dK hQ hk43 hk57 hk94 x1 x2 x3 x4 x5 x7 (y0 + y1) (8 : Int32) _ hf
  · have hf := pf_t c2 hf
    refine x_iconst (0 : Int32) C dX10_cure_149 (by decide) ?_
    refine x_goto (tgt := 155) C dX10_cure_150 (by decide) ?_
    exact w_cure_155 n _ _ _ C B hr dK hQ hk43 hk57 hk94 x1 x2 x3 x4 x5 x7 (y0 + y1) (0 : Int32) _ hf
def f_cure_105 (n : Nat) (k43 : Int32 → Int32 → Int32 → Int32 → MS → Option (Int32 × MS)) (k57 : Int32 → Int32 → Int32 → Int32 → Int32 → MS → Option (Int32 × MS)) (k94 : Int32 → Int32 → Int32 → Int32 → Int32 → Int32 → MS → Option (Int32 × MS)) (x1 : Int32) (x2 : Int32) (x3 : Int32) (x4 : Int32) (x5 : Int32) (x7 : Int32) (y0 : Int32) (y1 : Int32) (σ : MS) : Option (Int32 × MS) := if y1 ≤ y0 then (k57 x1 x2 x3 x4 (x5 + (1 : Int32)) σ) else (if inb ((202 : Int32) + x1) 532 = true then if x4 = (ga σ 14 (Int32.toNatClampNeg ((202 : Int32) + x1))) then (f_cure_133 n k43 k57 k94 x1 x2 x3 x4 x5 x7 ((5 : Int32) * x7) (0 : Int32) σ) else (f_cure_133 n k43 k57 k94 x1 x2 x3 x4 x5 x7 ((5 : Int32) * x7) (10 : Int32) σ) else none)
set_option maxHeartbeats 4000000 in
theorem w_cure_105 {K : KT} {M : MT} {r : Int32} {τ : MS} (n : Nat) (k43 : Int32 → Int32 → Int32 → Int32 → MS → Option (Int32 × MS)) (k57 : Int32 → Int32 → Int32 → Int32 → Int32 → MS → Option (Int32 × MS)) (k94 : Int32 → Int32 → Int32 → Int32 → Int32 → Int32 → MS → Option (Int32 × MS)) (C : Kok K cX10_cure 9 RX10) (B : MB K M) (hr : (kMe K).sig.returnType = some .int) (dK : kR K = rmD 3) (hQ : KQm K M (some (.int r)) τ)  (hk43 : ∀ (x1 : Int32) (x2 : Int32) (x3 : Int32) (x4 : Int32) (σ : MS), k43 x1 x2 x3 x4 σ = some (r, τ) → XJ K 9 (Wm K M σ) 43 [(0, .ref (mO M)), (1, .int x1), (2, .int x2), (3, .int x3), (4, .int x4)] []) (hk57 : ∀ (x1 : Int32) (x2 : Int32) (x3 : Int32) (x4 : Int32) (x5 : Int32) (σ : MS), k57 x1 x2 x3 x4 x5 σ = some (r, τ) → XJ K 9 (Wm K M σ) 57 [(0, .ref (mO M)), (1, .int x1), (2, .int x2), (3, .int x3), (4, .int x4), (5, .int x5)] []) (hk94 : ∀ (x1 : Int32) (x2 : Int32) (x3 : Int32) (x4 : Int32) (x5 : Int32) (x7 : Int32) (σ : MS), k94 x1 x2 x3 x4 x5 x7 σ = some (r, τ) → XJ K 9 (Wm K M σ) 94 [(0, .ref (mO M)), (1, .int x1), (2, .int x2), (3, .int x3), (4, .int x4), (5, .int x5), (7, .int x7)] []) (x1 : Int32) (x2 : Int32) (x3 : Int32) (x4 : Int32) (x5 : Int32) (x7 : Int32) (y0 : Int32) (y1 : Int32) (σ : MS) (hf : f_cure_105 n k43 k57 k94 x1 x2 x3 x4 x5 x7 y0 y1 σ = some (r, τ)) : XJ K 9 (Wm K M σ) 105 [(0, .ref (mO M)), (1, .int x1), (2, .int x2), (3, .int x3), (4, .int x4), (5, .int x5), (7, .int x7)] [.int y1, .int y0] := by
  unfold f_cure_105 at hf
  refine x_icmp_ge (tgt := 235) C dX10_cure_105 (by decide) (fun c1 => ?_) (fun c1 => ?_)
  · have hf := pf_t c1 hf
    refine x_inc (c := (1 : Int32)) (L' := [(0, .ref (mO M)), (1, .int x1), (2, .int x2), (3, .int x3), (4, .int x4), (5, .int (x5 + (1 : Int32)))]) C dX10_cure_235 5 rfl (by decide) (Nat.le_of_ble_eq_true rfl) [1, 2, 3, 4, 5, 0] rfl ?_
    refine x_goto (tgt := 57) C dX10_cure_238 (by decide) ?_
    exact hk57 x1 x2 x3 x4 (x5 + (1 : Int32)) _ hf
  · have hf := pf_f c1 hf
    refine x_iconst (5 : Int32) C dX10_cure_108 (by decide) ?_
    refine x_iload C dX10_cure_109 6 rfl ?_
    refine x_imul C dX10_cure_111 ?_
    refine x_iload C dX10_cure_112 4 rfl ?_
    refine x_aload_n C dX10_cure_114 0 rfl ?_
    refine mg_14 C B dX10_cure_115 ?_
    refine x_sipush (202 : Int32) C dX10_cure_118 (by decide) ?_
    refine x_iload_n C dX10_cure_121 1 rfl ?_
    refine x_iadd C dX10_cure_122 ?_
    obtain ⟨h2, hf⟩ := pf_in hf
    refine ml_14 C B h2 dX10_cure_123 ?_
    refine x_icmp_ne (tgt := 131) C dX10_cure_124 (by decide) (fun c3 => ?_) (fun c3 => ?_)
    · have hf := pf_f c3 hf
      refine x_bipush (10 : Int32) C dX10_cure_131 (by decide) ?_
      exact w_cure_133 n _ _ _ C B hr dK hQ hk43 hk57 hk94 x1 x2 x3 x4 x5 x7 ((5 : Int32) * x7) (10 : Int32) _ hf
    · have hf := pf_t c3 hf
      refine x_iconst (0 : Int32) C dX10_cure_127 (by decide) ?_
      refine x_goto (tgt := 133) C dX10_cure_128 (by decide) ?_
      exact w_cure_133 n _ _ _ C B hr dK hQ hk43 hk57 hk94 x1 x2 x3 x4 x5 x7 ((5 : Int32) * x7) (0 : Int32) _ hf
def f_cure_94 (n : Nat) (k43 : Int32 → Int32 → Int32 → Int32 → MS → Option (Int32 × MS)) (k57 : Int32 → Int32 → Int32 → Int32 → Int32 → MS → Option (Int32 × MS)) : Nat → Int32 → Int32 → Int32 → Int32 → Int32 → Int32 → MS → Option (Int32 × MS)
  | 0, _, _, _, _, _, _, _ => none
  | m + 1, x1, x2, x3, x4, x5, x7, σ => if x3 = 0 then (f_cure_105 n k43 k57 (f_cure_94 n k43 k57 m) x1 x2 x3 x4 x5 x7 x7 (1 : Int32) σ) else (f_cure_105 n k43 k57 (f_cure_94 n k43 k57 m) x1 x2 x3 x4 x5 x7 x7 (2 : Int32) σ)
set_option maxHeartbeats 4000000 in
theorem w_cure_94 {K : KT} {M : MT} {r : Int32} {τ : MS} (n : Nat) (k43 : Int32 → Int32 → Int32 → Int32 → MS → Option (Int32 × MS)) (k57 : Int32 → Int32 → Int32 → Int32 → Int32 → MS → Option (Int32 × MS)) (C : Kok K cX10_cure 9 RX10) (B : MB K M) (hr : (kMe K).sig.returnType = some .int) (dK : kR K = rmD 3) (hQ : KQm K M (some (.int r)) τ)  (hk43 : ∀ (x1 : Int32) (x2 : Int32) (x3 : Int32) (x4 : Int32) (σ : MS), k43 x1 x2 x3 x4 σ = some (r, τ) → XJ K 9 (Wm K M σ) 43 [(0, .ref (mO M)), (1, .int x1), (2, .int x2), (3, .int x3), (4, .int x4)] []) (hk57 : ∀ (x1 : Int32) (x2 : Int32) (x3 : Int32) (x4 : Int32) (x5 : Int32) (σ : MS), k57 x1 x2 x3 x4 x5 σ = some (r, τ) → XJ K 9 (Wm K M σ) 57 [(0, .ref (mO M)), (1, .int x1), (2, .int x2), (3, .int x3), (4, .int x4), (5, .int x5)] []) : ∀ (m : Nat) (x1 : Int32) (x2 : Int32) (x3 : Int32) (x4 : Int32) (x5 : Int32) (x7 : Int32) (σ : MS) (hf : f_cure_94 n k43 k57 m x1 x2 x3 x4 x5 x7 σ = some (r, τ)), XJ K 9 (Wm K M σ) 94 [(0, .ref (mO M)), (1, .int x1), (2, .int x2), (3, .int x3), (4, .int x4), (5, .int x5), (7, .int x7)] [] := by
  intro m
  induction m with
  | zero => intro x1 x2 x3 x4 x5 x7 σ hf; cases hf
  | succ m ih =>
    intro x1 x2 x3 x4 x5 x7 σ hf
    rw [f_cure_94] at hf
    refine x_iload C dX10_cure_94 6 rfl ?_
    refine x_iload_n C dX10_cure_96 3 rfl ?_
    refine x_if_eq (tgt := 104) C dX10_cure_97 (by decide) (fun c1 => ?_) (fun c1 => ?_)
    · have hf := pf_t c1 hf
      refine x_iconst (1 : Int32) C dX10_cure_104 (by decide) ?_
      exact w_cure_105 n _ _ _ C B hr dK hQ hk43 hk57 ih x1 x2 x3 x4 x5 x7 x7 (1 : Int32) _ hf
    · have hf := pf_f c1 hf
      refine x_iconst (2 : Int32) C dX10_cure_100 (by decide) ?_
      refine x_goto (tgt := 105) C dX10_cure_101 (by decide) ?_
      exact w_cure_105 n _ _ _ C B hr dK hQ hk43 hk57 ih x1 x2 x3 x4 x5 x7 x7 (2 : Int32) _ hf
def f_cure_57 (n : Nat) (k43 : Int32 → Int32 → Int32 → Int32 → MS → Option (Int32 × MS)) : Nat → Int32 → Int32 → Int32 → Int32 → Int32 → MS → Option (Int32 × MS)
  | 0, _, _, _, _, _, _ => none
  | m + 1, x1, x2, x3, x4, x5, σ => if (ga σ 14 0) ≤ x5 then (k43 x1 x2 x3 (x4 + (1 : Int32)) σ) else ((f_standsAt n σ x5).bind fun r2 => if r2 = (-1 : Int32) then (f_cure_94 n k43 (f_cure_57 n k43 m) n x1 x2 x3 x4 x5 (0 : Int32) σ) else (if r2 = x1 then (f_cure_94 n k43 (f_cure_57 n k43 m) n x1 x2 x3 x4 x5 (0 : Int32) σ) else (f_cure_57 n k43 m x1 x2 x3 x4 (x5 + (1 : Int32)) σ)))
set_option maxHeartbeats 4000000 in
theorem w_cure_57 {K : KT} {M : MT} {r : Int32} {τ : MS} (n : Nat) (k43 : Int32 → Int32 → Int32 → Int32 → MS → Option (Int32 × MS)) (C : Kok K cX10_cure 9 RX10) (B : MB K M) (hr : (kMe K).sig.returnType = some .int) (dK : kR K = rmD 3) (hQ : KQm K M (some (.int r)) τ)  (hk43 : ∀ (x1 : Int32) (x2 : Int32) (x3 : Int32) (x4 : Int32) (σ : MS), k43 x1 x2 x3 x4 σ = some (r, τ) → XJ K 9 (Wm K M σ) 43 [(0, .ref (mO M)), (1, .int x1), (2, .int x2), (3, .int x3), (4, .int x4)] []) : ∀ (m : Nat) (x1 : Int32) (x2 : Int32) (x3 : Int32) (x4 : Int32) (x5 : Int32) (σ : MS) (hf : f_cure_57 n k43 m x1 x2 x3 x4 x5 σ = some (r, τ)), XJ K 9 (Wm K M σ) 57 [(0, .ref (mO M)), (1, .int x1), (2, .int x2), (3, .int x3), (4, .int x4), (5, .int x5)] [] := by
  intro m
  induction m with
  | zero => intro x1 x2 x3 x4 x5 σ hf; cases hf
  | succ m ih =>
    intro x1 x2 x3 x4 x5 σ hf
    rw [f_cure_57] at hf
    refine x_iload C dX10_cure_57 5 rfl ?_
    refine x_aload_n C dX10_cure_59 0 rfl ?_
    refine mg_14 C B dX10_cure_60 ?_
    refine x_iconst (0 : Int32) C dX10_cure_63 (by decide) ?_
    refine mlc_14 0 C B (by decide +kernel) dX10_cure_64 ?_
    refine x_icmp_ge (tgt := 241) C dX10_cure_65 (by decide) (fun c1 => ?_) (fun c1 => ?_)
    · have hf := pf_t c1 hf
      refine x_inc (c := (1 : Int32)) (L' := [(0, .ref (mO M)), (1, .int x1), (2, .int x2), (3, .int x3), (4, .int (x4 + (1 : Int32)))]) C dX10_cure_241 4 rfl (by decide) (Nat.le_of_ble_eq_true rfl) [1, 2, 3, 4, 0] rfl ?_
      refine x_goto (tgt := 43) C dX10_cure_244 (by decide) ?_
      exact hk43 x1 x2 x3 (x4 + (1 : Int32)) _ hf
    · have hf := pf_f c1 hf
      refine x_aload_n C dX10_cure_68 0 rfl ?_
      refine x_iload C dX10_cure_69 5 rfl ?_
      obtain ⟨r2, er2, hf⟩ := pf_b hf
      refine mc_standsAt C B dK (Nat.le_of_ble_eq_true rfl) er2 (Nat.le_of_ble_eq_true rfl) dX10_cure_71 ?_
      refine x_istore (L' := [(0, .ref (mO M)), (1, .int x1), (2, .int x2), (3, .int x3), (4, .int x4), (5, .int x5), (6, .int r2)]) C dX10_cure_74 (Nat.le_of_ble_eq_true rfl) [1, 2, 3, 4, 5, 6, 0] rfl ?_
      refine x_iload C dX10_cure_76 6 rfl ?_
      refine x_iconst (-1 : Int32) C dX10_cure_78 (by decide) ?_
      refine x_icmp_eq (tgt := 91) C dX10_cure_79 (by decide) (fun c3 => ?_) (fun c3 => ?_)
      · have hf := pf_t c3 hf
        refine x_iconst (0 : Int32) C dX10_cure_91 (by decide) ?_
        refine x_istore (L' := [(0, .ref (mO M)), (1, .int x1), (2, .int x2), (3, .int x3), (4, .int x4), (5, .int x5), (7, .int (0 : Int32))]) C dX10_cure_92 (Nat.le_of_ble_eq_true rfl) [1, 2, 3, 4, 5, 6, 0] rfl ?_
        exact w_cure_94 n _ _ C B hr dK hQ hk43 ih n x1 x2 x3 x4 x5 (0 : Int32) _ hf
      · have hf := pf_f c3 hf
        refine x_iload C dX10_cure_82 6 rfl ?_
        refine x_iload_n C dX10_cure_84 1 rfl ?_
        refine x_icmp_eq (tgt := 91) C dX10_cure_85 (by decide) (fun c4 => ?_) (fun c4 => ?_)
        · have hf := pf_t c4 hf
          refine x_iconst (0 : Int32) C dX10_cure_91 (by decide) ?_
          refine x_istore (L' := [(0, .ref (mO M)), (1, .int x1), (2, .int x2), (3, .int x3), (4, .int x4), (5, .int x5), (7, .int (0 : Int32))]) C dX10_cure_92 (Nat.le_of_ble_eq_true rfl) [1, 2, 3, 4, 5, 6, 0] rfl ?_
          exact w_cure_94 n _ _ C B hr dK hQ hk43 ih n x1 x2 x3 x4 x5 (0 : Int32) _ hf
        · have hf := pf_f c4 hf
          refine x_goto (tgt := 235) C dX10_cure_88 (by decide) ?_
          refine x_inc (c := (1 : Int32)) (L' := [(0, .ref (mO M)), (1, .int x1), (2, .int x2), (3, .int x3), (4, .int x4), (5, .int (x5 + (1 : Int32)))]) C dX10_cure_235 5 rfl (by decide) (Nat.le_of_ble_eq_true rfl) [1, 2, 3, 4, 5, 0] rfl ?_
          refine x_goto (tgt := 57) C dX10_cure_238 (by decide) ?_
          exact ih x1 x2 x3 x4 (x5 + (1 : Int32)) _ hf
def f_cure_43 (n : Nat) : Nat → Int32 → Int32 → Int32 → Int32 → MS → Option (Int32 × MS)
  | 0, _, _, _, _, _ => none
  | m + 1, x1, x2, x3, x4, σ => if (ga σ 14 2) ≤ x4 then (if x2 = (999 : Int32) then (some ((-1 : Int32), σ)) else (some (x2, σ))) else (f_cure_57 n (f_cure_43 n m) n x1 x2 x3 x4 (0 : Int32) σ)
set_option maxHeartbeats 4000000 in
theorem w_cure_43 {K : KT} {M : MT} {r : Int32} {τ : MS} (n : Nat) (C : Kok K cX10_cure 9 RX10) (B : MB K M) (hr : (kMe K).sig.returnType = some .int) (dK : kR K = rmD 3) (hQ : KQm K M (some (.int r)) τ) : ∀ (m : Nat) (x1 : Int32) (x2 : Int32) (x3 : Int32) (x4 : Int32) (σ : MS) (hf : f_cure_43 n m x1 x2 x3 x4 σ = some (r, τ)), XJ K 9 (Wm K M σ) 43 [(0, .ref (mO M)), (1, .int x1), (2, .int x2), (3, .int x3), (4, .int x4)] [] := by
  intro m
  induction m with
  | zero => intro x1 x2 x3 x4 σ hf; cases hf
  | succ m ih =>
    intro x1 x2 x3 x4 σ hf
    rw [f_cure_43] at hf
    refine x_iload C dX10_cure_43 4 rfl ?_
    refine x_aload_n C dX10_cure_45 0 rfl ?_
    refine mg_14 C B dX10_cure_46 ?_
    refine x_iconst (2 : Int32) C dX10_cure_49 (by decide) ?_
    refine mlc_14 2 C B (by decide +kernel) dX10_cure_50 ?_
    refine x_icmp_ge (tgt := 247) C dX10_cure_51 (by decide) (fun c1 => ?_) (fun c1 => ?_)
    · have hf := pf_t c1 hf
      refine x_iload_n C dX10_cure_247 2 rfl ?_
      refine x_sipush (999 : Int32) C dX10_cure_248 (by decide) ?_
      refine x_icmp_ne (tgt := 258) C dX10_cure_251 (by decide) (fun c2 => ?_) (fun c2 => ?_)
      · have hf := pf_f c2 hf
        refine x_iload_n C dX10_cure_258 2 rfl ?_
        obtain ⟨rfl, rfl⟩ := Prod.mk.inj (Option.some.inj hf)
        exact m_iret C hr hQ dX10_cure_259
      · have hf := pf_t c2 hf
        refine x_iconst (-1 : Int32) C dX10_cure_254 (by decide) ?_
        refine x_goto (tgt := 259) C dX10_cure_255 (by decide) ?_
        obtain ⟨rfl, rfl⟩ := Prod.mk.inj (Option.some.inj hf)
        exact m_iret C hr hQ dX10_cure_259
    · have hf := pf_f c1 hf
      refine x_iconst (0 : Int32) C dX10_cure_54 (by decide) ?_
      refine x_istore (L' := [(0, .ref (mO M)), (1, .int x1), (2, .int x2), (3, .int x3), (4, .int x4), (5, .int (0 : Int32))]) C dX10_cure_55 (Nat.le_of_ble_eq_true rfl) [1, 2, 3, 4, 5, 0] rfl ?_
      exact w_cure_57 n _ C B hr dK hQ ih n x1 x2 x3 x4 (0 : Int32) _ hf
def f_cure (n : Nat) (x1 : Int32) (σ : MS) : Option (Int32 × MS) := ev (si σ 0 (0 : Int32)) fun s1 => if (f_isStatue s1 x1) = 0 then (some ((-1 : Int32), s1)) else (if (f_isEvicted s1 x1) = 0 then (ev (f_has (ga s1 14 200) x1) fun v4 => f_cure_43 n n x1 (999 : Int32) v4 (0 : Int32) s1) else (some ((-1 : Int32), s1)))
set_option maxHeartbeats 4000000 in
theorem w_cure_E {K : KT} {M : MT} {r : Int32} {τ : MS} (n : Nat) (C : Kok K cX10_cure 9 RX10) (B : MB K M) (hr : (kMe K).sig.returnType = some .int) (dK : kR K = rmD 3) (hQ : KQm K M (some (.int r)) τ) (x1 : Int32) (σ : MS) (hf : f_cure n x1 σ = some (r, τ)) : XJ K 9 (Wm K M σ) 0 [(0, .ref (mO M)), (1, .int x1)] [] := by
  unfold f_cure at hf
  refine x_aload_n C dX10_cure_0 0 rfl ?_
  refine x_iconst (0 : Int32) C dX10_cure_1 (by decide) ?_
  refine mp_0 C B dX10_cure_2 ?_
  obtain ⟨s1, es1, hf⟩ := pf_e hf
  refine m_ren es1 ?_
  refine x_aload_n C dX10_cure_5 0 rfl ?_
  refine x_iload_n C dX10_cure_6 1 rfl ?_
  refine mc_isStatue C B dK (Nat.le_of_ble_eq_true rfl) rfl (Nat.le_of_ble_eq_true rfl) dX10_cure_7 ?_
  refine x_if_eq (tgt := 21) C dX10_cure_10 (by decide) (fun c2 => ?_) (fun c2 => ?_)
  · have hf := pf_t c2 hf
    refine x_iconst (-1 : Int32) C dX10_cure_21 (by decide) ?_
    obtain ⟨rfl, rfl⟩ := Prod.mk.inj (Option.some.inj hf)
    exact m_iret C hr hQ dX10_cure_22
  · have hf := pf_f c2 hf
    refine x_aload_n C dX10_cure_13 0 rfl ?_
    refine x_iload_n C dX10_cure_14 1 rfl ?_
    refine mc_isEvicted C B dK (Nat.le_of_ble_eq_true rfl) rfl (Nat.le_of_ble_eq_true rfl) dX10_cure_15 ?_
    refine x_if_eq (tgt := 23) C dX10_cure_18 (by decide) (fun c3 => ?_) (fun c3 => ?_)
    · have hf := pf_t c3 hf
      refine x_sipush (999 : Int32) C dX10_cure_23 (by decide) ?_
      refine x_istore_n (L' := [(0, .ref (mO M)), (1, .int x1), (2, .int (999 : Int32))]) C dX10_cure_26 (Nat.le_of_ble_eq_true rfl) [1, 2, 0] rfl ?_
      refine x_aload_n C dX10_cure_27 0 rfl ?_
      refine mg_14 C B dX10_cure_28 ?_
      refine x_sipush (200 : Int32) C dX10_cure_31 (by decide) ?_
      refine mlc_14 200 C B (by decide +kernel) dX10_cure_34 ?_
      refine x_iload_n C dX10_cure_35 1 rfl ?_
      refine mc_has C B dK (Nat.le_of_ble_eq_true rfl) rfl (Nat.le_of_ble_eq_true rfl) dX10_cure_36 ?_
      obtain ⟨v4, ev4, hf⟩ := pf_e hf
      refine x_topir ev4 ?_
      refine x_istore_n (L' := [(0, .ref (mO M)), (1, .int x1), (2, .int (999 : Int32)), (3, .int v4)]) C dX10_cure_39 (Nat.le_of_ble_eq_true rfl) [1, 2, 3, 0] rfl ?_
      refine x_iconst (0 : Int32) C dX10_cure_40 (by decide) ?_
      refine x_istore (L' := [(0, .ref (mO M)), (1, .int x1), (2, .int (999 : Int32)), (3, .int v4), (4, .int (0 : Int32))]) C dX10_cure_41 (Nat.le_of_ble_eq_true rfl) [1, 2, 3, 4, 0] rfl ?_
      exact w_cure_43 n C B hr dK hQ n x1 (999 : Int32) v4 (0 : Int32) _ hf
    · have hf := pf_f c3 hf
      refine x_iconst (-1 : Int32) C dX10_cure_21 (by decide) ?_
      obtain ⟨rfl, rfl⟩ := Prod.mk.inj (Option.some.inj hf)
      exact m_iret C hr hQ dX10_cure_22
theorem met_cure {M : MT} {v : (Int32 × MS)} {n : Nat} {σ : MS} {x1 : Int32} {l : Launch} (hc : (mCl M)[mCi M]? = some (RX10, TX10, 61)) (hf : f_cure n x1 σ = some v) : Met l yX10_cure (ws_ yX10_cure cX10_cure 9 (some .int)) (rmD 3) (va_Pc [.ref (mO M), .int x1] (MU M σ)) (Qm M (some (.int v.1)) v.2) 0 0 (mAd M) :=
  m_met [.ref (mO M), .int x1] (by decide) rfl (Nat.le_of_ble_eq_true rfl) hc (fun K hl hR hr C B hQ => w_cure_E _ C B hr hR hQ _ _ hf)
def f_cured (x1 : Int32) (σ : MS) : (Int32 × MS) := ev (si σ 0 (0 : Int32)) fun s1 => if (gi s1 42) = (-1 : Int32) then (((-1 : Int32), s1)) else (if x1 = (0 : Int32) then ((gi s1 42, s1)) else (if x1 = (1 : Int32) then ((gi s1 43, s1)) else (if x1 = (2 : Int32) then ((gi s1 44, s1)) else (((-1 : Int32), s1)))))
set_option maxHeartbeats 4000000 in
theorem w_cured_E {K : KT} {M : MT} {r : Int32} {τ : MS} (C : Kok K cX10_cured 2 RX10) (B : MB K M) (hr : (kMe K).sig.returnType = some .int) (dK : kR K = rmD 1) (hQ : KQm K M (some (.int r)) τ) (x1 : Int32) (σ : MS) (hf : f_cured x1 σ = (r, τ)) : XJ K 2 (Wm K M σ) 0 [(0, .ref (mO M)), (1, .int x1)] [] := by
  unfold f_cured at hf
  refine x_aload_n C dX10_cured_0 0 rfl ?_
  refine x_iconst (0 : Int32) C dX10_cured_1 (by decide) ?_
  refine mp_0 C B dX10_cured_2 ?_
  obtain ⟨s1, es1, hf⟩ := pf_e hf
  refine m_ren es1 ?_
  refine x_aload_n C dX10_cured_5 0 rfl ?_
  refine mg_42 C B dX10_cured_6 ?_
  refine x_iconst (-1 : Int32) C dX10_cured_9 (by decide) ?_
  refine x_icmp_ne (tgt := 15) C dX10_cured_10 (by decide) (fun c2 => ?_) (fun c2 => ?_)
  · have hf := pf_f c2 hf
    refine x_iload_n C dX10_cured_15 1 rfl ?_
    by_cases c3 : x1 = (0 : Int32)
    · have hf := pf_t c3 hf
      refine x_tableIn (off := 28) (tgt := 44) C dX10_cured_16 (by rw [c3]; decide) (by rw [c3]; decide) (by rw [c3]; decide) (by decide) ?_
      refine x_aload_n C dX10_cured_44 0 rfl ?_
      refine mg_42 C B dX10_cured_45 ?_
      obtain ⟨rfl, rfl⟩ := Prod.mk.inj hf
      exact m_iret C hr hQ dX10_cured_48
    · have hf := pf_f c3 hf
      by_cases c4 : x1 = (1 : Int32)
      · have hf := pf_t c4 hf
        refine x_tableIn (off := 33) (tgt := 49) C dX10_cured_16 (by rw [c4]; decide) (by rw [c4]; decide) (by rw [c4]; decide) (by decide) ?_
        refine x_aload_n C dX10_cured_49 0 rfl ?_
        refine mg_43 C B dX10_cured_50 ?_
        obtain ⟨rfl, rfl⟩ := Prod.mk.inj hf
        exact m_iret C hr hQ dX10_cured_53
      · have hf := pf_f c4 hf
        by_cases c5 : x1 = (2 : Int32)
        · have hf := pf_t c5 hf
          refine x_tableIn (off := 38) (tgt := 54) C dX10_cured_16 (by rw [c5]; decide) (by rw [c5]; decide) (by rw [c5]; decide) (by decide) ?_
          refine x_aload_n C dX10_cured_54 0 rfl ?_
          refine mg_44 C B dX10_cured_55 ?_
          obtain ⟨rfl, rfl⟩ := Prod.mk.inj hf
          exact m_iret C hr hQ dX10_cured_58
        · have hf := pf_f c5 hf
          refine x_tableOut (tgt := 59) C dX10_cured_16 (by have := lv_neT c3 (show (0 : Int32).toInt = (0 : Int) by decide); have := lv_neT c4 (show (1 : Int32).toInt = (1 : Int) by decide); have := lv_neT c5 (show (2 : Int32).toInt = (2 : Int) by decide); omega) (by decide) ?_
          refine x_iconst (-1 : Int32) C dX10_cured_59 (by decide) ?_
          obtain ⟨rfl, rfl⟩ := Prod.mk.inj hf
          exact m_iret C hr hQ dX10_cured_60
  · have hf := pf_t c2 hf
    refine x_iconst (-1 : Int32) C dX10_cured_13 (by decide) ?_
    obtain ⟨rfl, rfl⟩ := Prod.mk.inj hf
    exact m_iret C hr hQ dX10_cured_14
theorem met_cured {M : MT} {v : (Int32 × MS)} {σ : MS} {x1 : Int32} {l : Launch} (hc : (mCl M)[mCi M]? = some (RX10, TX10, 61)) (hf : f_cured x1 σ = v) : Met l yX10_cured (ws_ yX10_cured cX10_cured 2 (some .int)) (rmD 1) (va_Pc [.ref (mO M), .int x1] (MU M σ)) (Qm M (some (.int v.1)) v.2) 0 0 (mAd M) :=
  m_met [.ref (mO M), .int x1] (by decide) rfl (Nat.le_of_ble_eq_true rfl) hc (fun K hl hR hr C B hQ => w_cured_E C B hr hR hQ _ _ hf)
