set_option maxRecDepth 100000
def f_cameSo_2 (n : Nat) (σ : MS) : Nat → Int32 → Int32 → Int32 → Option Int32
  | 0, _, _, _ => none
  | m + 1, x1, x2, x3 => if x1 ≤ x3 then (some (1 : Int32)) else (if inb x3 940 = true then if inb ((202 : Int32) + (ga σ 1 (Int32.toNatClampNeg x3))) 532 = true then if inb (x3 + (1 : Int32)) 940 = true then if (ga σ 1 (Int32.toNatClampNeg (x3 + (1 : Int32)))) = (1 : Int32) then (if (f_has x2 (ga σ 14 (Int32.toNatClampNeg ((202 : Int32) + (ga σ 1 (Int32.toNatClampNeg x3)))))) = (1 : Int32) then (f_cameSo_2 n σ m x1 x2 (x3 + (2 : Int32))) else (some (0 : Int32))) else (if (f_has x2 (ga σ 14 (Int32.toNatClampNeg ((202 : Int32) + (ga σ 1 (Int32.toNatClampNeg x3)))))) = (0 : Int32) then (f_cameSo_2 n σ m x1 x2 (x3 + (2 : Int32))) else (some (0 : Int32))) else none else none else none)
set_option maxHeartbeats 4000000 in
theorem w_cameSo_2 {K : KT} {M : MT} {r : Int32} (n : Nat) (σ : MS) (C : Kok K cX10_cameSo 4 RX10) (B : MB K M) (hr : (kMe K).sig.returnType = some .boolean) (dK : kR K = rmD 2) (hQ : KQm K M (some (.int r)) σ) : ∀ (m : Nat) (x1 : Int32) (x2 : Int32) (x3 : Int32) (hf : f_cameSo_2 n σ m x1 x2 x3 = some r), XJ K 4 (Wm K M σ) 2 [(0, .ref (mO M)), (1, .int x1), (2, .int x2), (3, .int x3)] [] := by
  intro m
  induction m with
  | zero => intro x1 x2 x3 hf; cases hf
  | succ m ih =>
    intro x1 x2 x3 hf
    rw [f_cameSo_2] at hf
    refine x_iload_n C dX10_cameSo_2 3 rfl ?_
    refine x_iload_n C dX10_cameSo_3 1 rfl ?_
    refine x_icmp_ge (tgt := 54) C dX10_cameSo_4 (by decide) (fun c1 => ?_) (fun c1 => ?_)
    · have hf := pf_t c1 hf
      refine x_iconst (1 : Int32) C dX10_cameSo_54 (by decide) ?_
      obtain rfl := Option.some.inj hf
      exact m_zret C hr (Or.inr rfl) hQ dX10_cameSo_55
    · have hf := pf_f c1 hf
      refine x_iload_n C dX10_cameSo_7 2 rfl ?_
      refine x_aload_n C dX10_cameSo_8 0 rfl ?_
      refine mg_14 C B dX10_cameSo_9 ?_
      refine x_sipush (202 : Int32) C dX10_cameSo_12 (by decide) ?_
      refine x_aload_n C dX10_cameSo_15 0 rfl ?_
      refine mg_1 C B dX10_cameSo_16 ?_
      refine x_iload_n C dX10_cameSo_19 3 rfl ?_
      obtain ⟨h2, hf⟩ := pf_in hf
      refine ml_1 C B h2 dX10_cameSo_20 ?_
      refine x_iadd C dX10_cameSo_21 ?_
      obtain ⟨h3, hf⟩ := pf_in hf
      refine ml_14 C B h3 dX10_cameSo_22 ?_
      refine mc_has C B dK (Nat.le_of_ble_eq_true rfl) rfl (Nat.le_of_ble_eq_true rfl) dX10_cameSo_23 ?_
      refine x_aload_n C dX10_cameSo_26 0 rfl ?_
      refine mg_1 C B dX10_cameSo_27 ?_
      refine x_iload_n C dX10_cameSo_30 3 rfl ?_
      refine x_iconst (1 : Int32) C dX10_cameSo_31 (by decide) ?_
      refine x_iadd C dX10_cameSo_32 ?_
      obtain ⟨h4, hf⟩ := pf_in hf
      refine ml_1 C B h4 dX10_cameSo_33 ?_
      refine x_iconst (1 : Int32) C dX10_cameSo_34 (by decide) ?_
      refine x_icmp_ne (tgt := 42) C dX10_cameSo_35 (by decide) (fun c5 => ?_) (fun c5 => ?_)
      · have hf := pf_f c5 hf
        refine x_iconst (0 : Int32) C dX10_cameSo_42 (by decide) ?_
        refine x_icmp_eq (tgt := 48) C dX10_cameSo_43 (by decide) (fun c6 => ?_) (fun c6 => ?_)
        · have hf := pf_t c6 hf
          refine x_inc (c := (2 : Int32)) (L' := [(0, .ref (mO M)), (1, .int x1), (2, .int x2), (3, .int (x3 + (2 : Int32)))]) C dX10_cameSo_48 3 rfl (by decide) (Nat.le_of_ble_eq_true rfl) [1, 2, 3, 0] rfl ?_
          refine x_goto (tgt := 2) C dX10_cameSo_51 (by decide) ?_
          exact ih x1 x2 (x3 + (2 : Int32)) hf
        · have hf := pf_f c6 hf
          refine x_iconst (0 : Int32) C dX10_cameSo_46 (by decide) ?_
          obtain rfl := Option.some.inj hf
          exact m_zret C hr (Or.inl rfl) hQ dX10_cameSo_47
      · have hf := pf_t c5 hf
        refine x_iconst (1 : Int32) C dX10_cameSo_38 (by decide) ?_
        refine x_goto (tgt := 43) C dX10_cameSo_39 (by decide) ?_
        refine x_icmp_eq (tgt := 48) C dX10_cameSo_43 (by decide) (fun c7 => ?_) (fun c7 => ?_)
        · have hf := pf_t c7 hf
          refine x_inc (c := (2 : Int32)) (L' := [(0, .ref (mO M)), (1, .int x1), (2, .int x2), (3, .int (x3 + (2 : Int32)))]) C dX10_cameSo_48 3 rfl (by decide) (Nat.le_of_ble_eq_true rfl) [1, 2, 3, 0] rfl ?_
          refine x_goto (tgt := 2) C dX10_cameSo_51 (by decide) ?_
          exact ih x1 x2 (x3 + (2 : Int32)) hf
        · have hf := pf_f c7 hf
          refine x_iconst (0 : Int32) C dX10_cameSo_46 (by decide) ?_
          obtain rfl := Option.some.inj hf
          exact m_zret C hr (Or.inl rfl) hQ dX10_cameSo_47
theorem bz_cameSo_2 {r : Int32} {n : Nat} {σ : MS} : ∀ (m : Nat) (x1 : Int32) (x2 : Int32) (x3 : Int32) (hf : f_cameSo_2 n σ m x1 x2 x3 = some r), r = 0 ∨ r = 1 := by
  intro m
  induction m with
  | zero => intro x1 x2 x3 hf; cases hf
  | succ m ih =>
    intro x1 x2 x3 hf
    rw [f_cameSo_2] at hf
    by_cases c1 : x1 ≤ x3
    · have hf := pf_t c1 hf
      obtain rfl := Option.some.inj hf
      exact (Or.inr rfl)
    · have hf := pf_f c1 hf
      obtain ⟨h2, hf⟩ := pf_in hf
      obtain ⟨h3, hf⟩ := pf_in hf
      obtain ⟨h4, hf⟩ := pf_in hf
      by_cases c5 : (ga σ 1 (Int32.toNatClampNeg (x3 + (1 : Int32)))) = (1 : Int32)
      · have hf := pf_t c5 hf
        by_cases c7 : (f_has x2 (ga σ 14 (Int32.toNatClampNeg ((202 : Int32) + (ga σ 1 (Int32.toNatClampNeg x3)))))) = (1 : Int32)
        · have hf := pf_t c7 hf
          exact ih x1 x2 (x3 + (2 : Int32)) hf
        · have hf := pf_f c7 hf
          obtain rfl := Option.some.inj hf
          exact (Or.inl rfl)
      · have hf := pf_f c5 hf
        by_cases c6 : (f_has x2 (ga σ 14 (Int32.toNatClampNeg ((202 : Int32) + (ga σ 1 (Int32.toNatClampNeg x3)))))) = (0 : Int32)
        · have hf := pf_t c6 hf
          exact ih x1 x2 (x3 + (2 : Int32)) hf
        · have hf := pf_f c6 hf
          obtain rfl := Option.some.inj hf
          exact (Or.inl rfl)
def f_cameSo (n : Nat) (σ : MS) (x1 : Int32) (x2 : Int32) : Option Int32 := f_cameSo_2 n σ n x1 x2 (0 : Int32)
set_option maxHeartbeats 4000000 in
theorem w_cameSo_E {K : KT} {M : MT} {r : Int32} (n : Nat) (σ : MS) (C : Kok K cX10_cameSo 4 RX10) (B : MB K M) (hr : (kMe K).sig.returnType = some .boolean) (dK : kR K = rmD 2) (hQ : KQm K M (some (.int r)) σ) (x1 : Int32) (x2 : Int32) (hf : f_cameSo n σ x1 x2 = some r) : XJ K 4 (Wm K M σ) 0 [(0, .ref (mO M)), (1, .int x1), (2, .int x2)] [] := by
  unfold f_cameSo at hf
  refine x_iconst (0 : Int32) C dX10_cameSo_0 (by decide) ?_
  refine x_istore_n (L' := [(0, .ref (mO M)), (1, .int x1), (2, .int x2), (3, .int (0 : Int32))]) C dX10_cameSo_1 (Nat.le_of_ble_eq_true rfl) [1, 2, 3, 0] rfl ?_
  exact w_cameSo_2 n σ C B hr dK hQ n x1 x2 (0 : Int32) hf
theorem bz_cameSo_E {r : Int32} {n : Nat} {σ : MS} {x1 : Int32} {x2 : Int32} (hf : f_cameSo n σ x1 x2 = some r) : r = 0 ∨ r = 1 := by
  unfold f_cameSo at hf
  exact bz_cameSo_2 n x1 x2 (0 : Int32) hf
theorem met_cameSo {M : MT} {v : Int32} {n : Nat} {σ : MS} {x1 : Int32} {x2 : Int32} {l : Launch} (hc : (mCl M)[mCi M]? = some (RX10, TX10, 61)) (hf : f_cameSo n σ x1 x2 = some v) : Met l yX10_cameSo (ws_ yX10_cameSo cX10_cameSo 4 (some .boolean)) (rmD 2) (va_Pc [.ref (mO M), .int x1, .int x2] (MU M σ)) (Qm M (some (.int v)) σ) 0 0 (mAd M) :=
  m_met [.ref (mO M), .int x1, .int x2] (by decide) rfl (Nat.le_of_ble_eq_true rfl) hc (fun K hl hR hr C B hQ => w_cameSo_E _ _ C B hr hR hQ _ _ hf)
theorem mc_cameSo {K : KT} {M : MT} {cc : ByteArray} {nL pc dk : Nat} {L : List (Nat × Value)} {rest : List Value} {σ : MS} {v : Int32} {n : Nat} {x1 : Int32} {x2 : Int32} (C : Kok K cc nL RX10) (B : MB K M) (dK : kR K = rmD dk) (hd : 2 + 1 ≤ dk) (hf : f_cameSo n σ x1 x2 = some v) (hW : (rest.map fun v => v.category).sum ≤ 8) (dd : decode cc pc = .ok (.invokevirtual 413, 3)) (kk2 : XJ K nL (Wm K M σ) (pc + 3) L ((.int v) :: rest)) : XJ K nL (Wm K M σ) pc L (.int x2 :: .int x1 :: .ref (mO M) :: rest) :=
  m_callV (rest := rest) (v := (some (.int v))) [.int x1, .int x2] 2 rfl C B dK hd (Nat.le_of_ble_eq_true rfl) (lw_V q2354 q2356 qs99 q133 q2357) (by decide +kernel) (met_cameSo B.2 hf) rfl hW dd kk2
def f_taste_191 (n : Nat) (k174 : Int32 → Int32 → Int32 → Int32 → MS → Option (Int32 × MS)) : Nat → Int32 → Int32 → Int32 → Int32 → Int32 → Int32 → MS → Option (Int32 × MS)
  | 0, _, _, _, _, _, _, _ => none
  | m + 1, x3, x4, x6, x7, x8, x9, σ => if x4 ≤ x9 then (if (f_isEvicted σ x7) = 0 then (if (f_size (((2 : Int32) * x8) - x3)) < x6 then (ev (f_size (((2 : Int32) * x8) - x3)) fun v4 => ev (si σ 46 x7) fun s5 => k174 x3 x4 v4 (x7 + (1 : Int32)) s5) else (k174 x3 x4 x6 (x7 + (1 : Int32)) σ)) else (k174 x3 x4 x6 (x7 + (1 : Int32)) σ)) else (if inb x9 32 = true then if (ga σ 49 (Int32.toNatClampNeg x9)) = 0 then (f_taste_191 n k174 m x3 x4 x6 x7 x8 (x9 + (1 : Int32)) σ) else (if inb ((202 : Int32) + x7) 532 = true then if (f_has x9 (ga σ 14 (Int32.toNatClampNeg ((202 : Int32) + x7)))) = 0 then (f_taste_191 n k174 m x3 x4 x6 x7 x8 (x9 + (1 : Int32)) σ) else (f_taste_191 n k174 m x3 x4 x6 x7 (x8 + (1 : Int32)) (x9 + (1 : Int32)) σ) else none) else none)
set_option maxHeartbeats 4000000 in
theorem w_taste_191 {K : KT} {M : MT} {r : Int32} {τ : MS} (n : Nat) (k174 : Int32 → Int32 → Int32 → Int32 → MS → Option (Int32 × MS)) (C : Kok K cX10_taste 10 RX10) (B : MB K M) (hr : (kMe K).sig.returnType = some .int) (dK : kR K = rmD 3) (hQ : KQm K M (some (.int r)) τ)  (hk174 : ∀ (x3 : Int32) (x4 : Int32) (x6 : Int32) (x7 : Int32) (σ : MS), k174 x3 x4 x6 x7 σ = some (r, τ) → XJ K 10 (Wm K M σ) 174 [(0, .ref (mO M)), (3, .int x3), (4, .int x4), (6, .int x6), (7, .int x7)] []) : ∀ (m : Nat) (x3 : Int32) (x4 : Int32) (x6 : Int32) (x7 : Int32) (x8 : Int32) (x9 : Int32) (σ : MS) (hf : f_taste_191 n k174 m x3 x4 x6 x7 x8 x9 σ = some (r, τ)), XJ K 10 (Wm K M σ) 191 [(0, .ref (mO M)), (3, .int x3), (4, .int x4), (6, .int x6), (7, .int x7), (8, .int x8), (9, .int x9)] [] := by
  intro m
  induction m with
  | zero => intro x3 x4 x6 x7 x8 x9 σ hf; cases hf
  | succ m ih =>
    intro x3 x4 x6 x7 x8 x9 σ hf
    rw [f_taste_191] at hf
    refine x_iload C dX10_taste_191 6 rfl ?_
    refine x_iload C dX10_taste_193 2 rfl ?_
    refine x_icmp_ge (tgt := 236) C dX10_taste_195 (by decide) (fun c1 => ?_) (fun c1 => ?_)
    · have hf := pf_t c1 hf
      refine x_aload_n C dX10_taste_236 0 rfl ?_
      refine x_iload C dX10_taste_237 4 rfl ?_
      refine mc_isEvicted C B dK (Nat.le_of_ble_eq_true rfl) rfl (Nat.le_of_ble_eq_true rfl) dX10_taste_239 ?_
      refine x_if_ne (tgt := 279) C dX10_taste_242 (by decide) (fun c2 => ?_) (fun c2 => ?_)
      · have hf := pf_f c2 hf
        refine x_inc (c := (1 : Int32)) (L' := [(0, .ref (mO M)), (3, .int x3), (4, .int x4), (6, .int x6), (7, .int (x7 + (1 : Int32)))]) C dX10_taste_279 4 rfl (by decide) (Nat.le_of_ble_eq_true rfl) [1, 2, 3, 4, 0] rfl ?_
        refine x_goto (tgt := 174) C dX10_taste_282 (by decide) ?_
        exact hk174 x3 x4 x6 (x7 + (1 : Int32)) _ hf
      · have hf := pf_t c2 hf
        refine x_iconst (2 : Int32) C dX10_taste_245 (by decide) ?_
        refine x_iload C dX10_taste_246 5 rfl ?_
        refine x_imul C dX10_taste_248 ?_
        refine x_iload_n C dX10_taste_249 1 rfl ?_
        refine x_isub C dX10_taste_250 ?_
        refine mc_size C B dK (Nat.le_of_ble_eq_true rfl) rfl (Nat.le_of_ble_eq_true rfl) dX10_taste_251 ?_
        refine x_iload C dX10_taste_254 3 rfl ?_
        refine x_icmp_lt (tgt := 262) C dX10_taste_256 (by decide) (fun c3 => ?_) (fun c3 => ?_)
        · have hf := pf_t c3 hf
          refine x_iconst (2 : Int32) C dX10_taste_262 (by decide) ?_
          refine x_iload C dX10_taste_263 5 rfl ?_
          refine x_imul C dX10_taste_265 ?_
          refine x_iload_n C dX10_taste_266 1 rfl ?_
          refine x_isub C dX10_taste_267 ?_
          refine mc_size C B dK (Nat.le_of_ble_eq_true rfl) rfl (Nat.le_of_ble_eq_true rfl) dX10_taste_268 ?_
          obtain ⟨v4, ev4, hf⟩ := pf_e hf
          refine x_topir ev4 ?_
          refine x_istore (L' := [(0, .ref (mO M)), (3, .int x3), (4, .int x4), (6, .int v4), (7, .int x7)]) C dX10_taste_271 (Nat.le_of_ble_eq_true rfl) [1, 2, 3, 0, 4] rfl ?_
          refine x_aload_n C dX10_taste_273 0 rfl ?_
          refine x_iload C dX10_taste_274 4 rfl ?_
          refine mp_46 C B dX10_taste_276 ?_
          obtain ⟨s5, es5, hf⟩ := pf_e hf
          refine m_ren es5 ?_
          refine x_inc (c := (1 : Int32)) (L' := [(0, .ref (mO M)), (3, .int x3), (4, .int x4), (6, .int v4), (7, .int (x7 + (1 : Int32)))]) C dX10_taste_279 4 rfl (by decide) (Nat.le_of_ble_eq_true rfl) [1, 2, 3, 4, 0] rfl ?_
          refine x_goto (tgt := 174) C dX10_taste_282 (by decide) ?_
          exact hk174 x3 x4 v4 (x7 + (1 : Int32)) _ hf
        · have hf := pf_f c3 hf
          refine x_goto (tgt := 279) C dX10_taste_259 (by decide) ?_
          refine x_inc (c := (1 : Int32)) (L' := [(0, .ref (mO M)), (3, .int x3), (4, .int x4), (6, .int x6), (7, .int (x7 + (1 : Int32)))]) C dX10_taste_279 4 rfl (by decide) (Nat.le_of_ble_eq_true rfl) [1, 2, 3, 4, 0] rfl ?_
          refine x_goto (tgt := 174) C dX10_taste_282 (by decide) ?_
          exact hk174 x3 x4 x6 (x7 + (1 : Int32)) _ hf
    · have hf := pf_f c1 hf
      refine x_aload_n C dX10_taste_198 0 rfl ?_
      refine mg_49 C B dX10_taste_199 ?_
      refine x_iload C dX10_taste_202 6 rfl ?_
      obtain ⟨h6, hf⟩ := pf_in hf
      refine ml_49 C B h6 dX10_taste_204 ?_
      refine x_if_eq (tgt := 230) C dX10_taste_205 (by decide) (fun c7 => ?_) (fun c7 => ?_)
      · have hf := pf_t c7 hf
        refine x_inc (c := (1 : Int32)) (L' := [(0, .ref (mO M)), (3, .int x3), (4, .int x4), (6, .int x6), (7, .int x7), (8, .int x8), (9, .int (x9 + (1 : Int32)))]) C dX10_taste_230 6 rfl (by decide) (Nat.le_of_ble_eq_true rfl) [1, 2, 3, 4, 5, 6, 0] rfl ?_
        refine x_goto (tgt := 191) C dX10_taste_233 (by decide) ?_
        exact ih x3 x4 x6 x7 x8 (x9 + (1 : Int32)) _ hf
      · have hf := pf_f c7 hf
        refine x_iload C dX10_taste_208 6 rfl ?_
        refine x_aload_n C dX10_taste_210 0 rfl ?_
        refine mg_14 C B dX10_taste_211 ?_
        refine x_sipush (202 : Int32) C dX10_taste_214 (by decide) ?_
        refine x_iload C dX10_taste_217 4 rfl ?_
        refine x_iadd C dX10_taste_219 ?_
        obtain ⟨h8, hf⟩ := pf_in hf
        refine ml_14 C B h8 dX10_taste_220 ?_
        refine mc_has C B dK (Nat.le_of_ble_eq_true rfl) rfl (Nat.le_of_ble_eq_true rfl) dX10_taste_221 ?_
        refine x_if_eq (tgt := 230) C dX10_taste_224 (by decide) (fun c9 => ?_) (fun c9 => ?_)
        · have hf := pf_t c9 hf
          refine x_inc (c := (1 : Int32)) (L' := [(0, .ref (mO M)), (3, .int x3), (4, .int x4), (6, .int x6), (7, .int x7), (8, .int x8), (9, .int (x9 + (1 : Int32)))]) C dX10_taste_230 6 rfl (by decide) (Nat.le_of_ble_eq_true rfl) [1, 2, 3, 4, 5, 6, 0] rfl ?_
          refine x_goto (tgt := 191) C dX10_taste_233 (by decide) ?_
          exact ih x3 x4 x6 x7 x8 (x9 + (1 : Int32)) _ hf
        · have hf := pf_f c9 hf
          refine x_inc (c := (1 : Int32)) (L' := [(0, .ref (mO M)), (3, .int x3), (4, .int x4), (6, .int x6), (7, .int x7), (8, .int (x8 + (1 : Int32))), (9, .int x9)]) C dX10_taste_227 5 rfl (by decide) (Nat.le_of_ble_eq_true rfl) [1, 2, 3, 4, 5, 0, 6] rfl ?_
          refine x_inc (c := (1 : Int32)) (L' := [(0, .ref (mO M)), (3, .int x3), (4, .int x4), (6, .int x6), (7, .int x7), (8, .int (x8 + (1 : Int32))), (9, .int (x9 + (1 : Int32)))]) C dX10_taste_230 6 rfl (by decide) (Nat.le_of_ble_eq_true rfl) [1, 2, 3, 4, 5, 6, 0] rfl ?_
          refine x_goto (tgt := 191) C dX10_taste_233 (by decide) ?_
          exact ih x3 x4 x6 x7 (x8 + (1 : Int32)) (x9 + (1 : Int32)) _ hf
def f_taste_174 (n : Nat) : Nat → Int32 → Int32 → Int32 → Int32 → MS → Option (Int32 × MS)
  | 0, _, _, _, _, _ => none
  | m + 1, x3, x4, x6, x7, σ => if (ga σ 14 3) ≤ x7 then (some (x3, σ)) else (f_taste_191 n (f_taste_174 n m) n x3 x4 x6 x7 (0 : Int32) (0 : Int32) σ)
set_option maxHeartbeats 4000000 in
theorem w_taste_174 {K : KT} {M : MT} {r : Int32} {τ : MS} (n : Nat) (C : Kok K cX10_taste 10 RX10) (B : MB K M) (hr : (kMe K).sig.returnType = some .int) (dK : kR K = rmD 3) (hQ : KQm K M (some (.int r)) τ) : ∀ (m : Nat) (x3 : Int32) (x4 : Int32) (x6 : Int32) (x7 : Int32) (σ : MS) (hf : f_taste_174 n m x3 x4 x6 x7 σ = some (r, τ)), XJ K 10 (Wm K M σ) 174 [(0, .ref (mO M)), (3, .int x3), (4, .int x4), (6, .int x6), (7, .int x7)] [] := by
  intro m
  induction m with
  | zero => intro x3 x4 x6 x7 σ hf; cases hf
  | succ m ih =>
    intro x3 x4 x6 x7 σ hf
    rw [f_taste_174] at hf
    refine x_iload C dX10_taste_174 4 rfl ?_
    refine x_aload_n C dX10_taste_176 0 rfl ?_
    refine mg_14 C B dX10_taste_177 ?_
    refine x_iconst (3 : Int32) C dX10_taste_180 (by decide) ?_
    refine mlc_14 3 C B (by decide +kernel) dX10_taste_181 ?_
    refine x_icmp_ge (tgt := 285) C dX10_taste_182 (by decide) (fun c1 => ?_) (fun c1 => ?_)
    · have hf := pf_t c1 hf
      refine x_iload_n C dX10_taste_285 1 rfl ?_
      obtain ⟨rfl, rfl⟩ := Prod.mk.inj (Option.some.inj hf)
      exact m_iret C hr hQ dX10_taste_286
    · have hf := pf_f c1 hf
      refine x_iconst (0 : Int32) C dX10_taste_185 (by decide) ?_
      refine x_istore (L' := [(0, .ref (mO M)), (3, .int x3), (4, .int x4), (6, .int x6), (7, .int x7), (8, .int (0 : Int32))]) C dX10_taste_186 (Nat.le_of_ble_eq_true rfl) [1, 2, 3, 4, 5, 0] rfl ?_
      refine x_iconst (0 : Int32) C dX10_taste_188 (by decide) ?_
      refine x_istore (L' := [(0, .ref (mO M)), (3, .int x3), (4, .int x4), (6, .int x6), (7, .int x7), (8, .int (0 : Int32)), (9, .int (0 : Int32))]) C dX10_taste_189 (Nat.le_of_ble_eq_true rfl) [1, 2, 3, 4, 5, 6, 0] rfl ?_
      exact w_taste_191 n _ C B hr dK hQ ih n x3 x4 x6 x7 (0 : Int32) (0 : Int32) _ hf
def f_taste_99 (n : Nat) : Nat → Int32 → Int32 → Int32 → Int32 → Int32 → MS → Option (Int32 × MS)
  | 0, _, _, _, _, _, _ => none
  | m + 1, x2, x3, x4, x5, x6, σ => if x4 ≤ x6 then (if x3 = 0 then (some ((0 : Int32), σ)) else (ev (si σ 45 x5) fun s3 => ev (si s3 46 (-1 : Int32)) fun s4 => f_taste_174 n n x3 x4 (999 : Int32) (0 : Int32) s4)) else ((f_cameSo n σ x2 x6).bind fun r5 => if inb x6 32 = true then ev (sa σ 49 (Int32.toNatClampNeg x6) (vp_nar .boolean r5)) fun s7 => if inb x6 32 = true then if (ga s7 49 (Int32.toNatClampNeg x6)) = 0 then (f_taste_99 n m x2 x3 x4 x5 (x6 + (1 : Int32)) s7) else (ev (x5 &&& x6) fun v10 => f_taste_99 n m x2 (x3 + (1 : Int32)) x4 v10 (x6 + (1 : Int32)) s7) else none else none)
set_option maxHeartbeats 4000000 in
theorem w_taste_99 {K : KT} {M : MT} {r : Int32} {τ : MS} (n : Nat) (C : Kok K cX10_taste 10 RX10) (B : MB K M) (hr : (kMe K).sig.returnType = some .int) (dK : kR K = rmD 3) (hQ : KQm K M (some (.int r)) τ) : ∀ (m : Nat) (x2 : Int32) (x3 : Int32) (x4 : Int32) (x5 : Int32) (x6 : Int32) (σ : MS) (hf : f_taste_99 n m x2 x3 x4 x5 x6 σ = some (r, τ)), XJ K 10 (Wm K M σ) 99 [(0, .ref (mO M)), (2, .int x2), (3, .int x3), (4, .int x4), (5, .int x5), (6, .int x6)] [] := by
  intro m
  induction m with
  | zero => intro x2 x3 x4 x5 x6 σ hf; cases hf
  | succ m ih =>
    intro x2 x3 x4 x5 x6 σ hf
    rw [f_taste_99] at hf
    refine x_iload C dX10_taste_99 5 rfl ?_
    refine x_iload C dX10_taste_101 3 rfl ?_
    refine x_icmp_ge (tgt := 149) C dX10_taste_103 (by decide) (fun c1 => ?_) (fun c1 => ?_)
    · have hf := pf_t c1 hf
      refine x_iload_n C dX10_taste_149 2 rfl ?_
      refine x_if_ne (tgt := 155) C dX10_taste_150 (by decide) (fun c2 => ?_) (fun c2 => ?_)
      · have hf := pf_f c2 hf
        refine x_aload_n C dX10_taste_155 0 rfl ?_
        refine x_iload C dX10_taste_156 4 rfl ?_
        refine mp_45 C B dX10_taste_158 ?_
        obtain ⟨s3, es3, hf⟩ := pf_e hf
        refine m_ren es3 ?_
        refine x_aload_n C dX10_taste_161 0 rfl ?_
        refine x_iconst (-1 : Int32) C dX10_taste_162 (by decide) ?_
        refine mp_46 C B dX10_taste_163 ?_
        obtain ⟨s4, es4, hf⟩ := pf_e hf
        refine m_ren es4 ?_
        refine x_sipush (999 : Int32) C dX10_taste_166 (by decide) ?_
        refine x_istore (L' := [(0, .ref (mO M)), (3, .int x3), (4, .int x4), (6, .int (999 : Int32))]) C dX10_taste_169 (Nat.le_of_ble_eq_true rfl) [1, 3, 4, 0] rfl ?_
        refine x_iconst (0 : Int32) C dX10_taste_171 (by decide) ?_
        refine x_istore (L' := [(0, .ref (mO M)), (3, .int x3), (4, .int x4), (6, .int (999 : Int32)), (7, .int (0 : Int32))]) C dX10_taste_172 (Nat.le_of_ble_eq_true rfl) [1, 2, 3, 4, 0] rfl ?_
        exact w_taste_174 n C B hr dK hQ n x3 x4 (999 : Int32) (0 : Int32) _ hf
      · have hf := pf_t c2 hf
        refine x_iconst (0 : Int32) C dX10_taste_153 (by decide) ?_
        obtain ⟨rfl, rfl⟩ := Prod.mk.inj (Option.some.inj hf)
        exact m_iret C hr hQ dX10_taste_154
    · have hf := pf_f c1 hf
      refine x_aload_n C dX10_taste_106 0 rfl ?_
      refine mg_49 C B dX10_taste_107 ?_
      refine x_iload C dX10_taste_110 5 rfl ?_
      refine x_aload_n C dX10_taste_112 0 rfl ?_
      refine x_iload_n C dX10_taste_113 1 rfl ?_
      refine x_iload C dX10_taste_114 5 rfl ?_
      obtain ⟨r5, er5, hf⟩ := pf_b hf
      refine mc_cameSo C B dK (Nat.le_of_ble_eq_true rfl) er5 (Nat.le_of_ble_eq_true rfl) dX10_taste_116 ?_
      obtain ⟨h6, hf⟩ := pf_in hf
      refine ms_49 C B h6 dX10_taste_119 ?_
      obtain ⟨s7, es7, hf⟩ := pf_e hf
      refine m_ren es7 ?_
      refine x_aload_n C dX10_taste_120 0 rfl ?_
      refine mg_49 C B dX10_taste_121 ?_
      refine x_iload C dX10_taste_124 5 rfl ?_
      obtain ⟨h8, hf⟩ := pf_in hf
      refine ml_49 C B h8 dX10_taste_126 ?_
      refine x_if_ne (tgt := 133) C dX10_taste_127 (by decide) (fun c9 => ?_) (fun c9 => ?_)
      · have hf := pf_f c9 hf
        refine x_inc (c := (1 : Int32)) (L' := [(0, .ref (mO M)), (2, .int x2), (3, .int (x3 + (1 : Int32))), (4, .int x4), (5, .int x5), (6, .int x6)]) C dX10_taste_133 2 rfl (by decide) (Nat.le_of_ble_eq_true rfl) [1, 2, 0, 3, 4, 5] rfl ?_
        refine x_iload C dX10_taste_136 4 rfl ?_
        refine x_iload C dX10_taste_138 5 rfl ?_
        refine x_iand C dX10_taste_140 ?_
        obtain ⟨v10, ev10, hf⟩ := pf_e hf
        refine x_topir ev10 ?_
        refine x_istore (L' := [(0, .ref (mO M)), (2, .int x2), (3, .int (x3 + (1 : Int32))), (4, .int x4), (5, .int v10), (6, .int x6)]) C dX10_taste_141 (Nat.le_of_ble_eq_true rfl) [1, 2, 3, 4, 0, 5] rfl ?_
        refine x_inc (c := (1 : Int32)) (L' := [(0, .ref (mO M)), (2, .int x2), (3, .int (x3 + (1 : Int32))), (4, .int x4), (5, .int v10), (6, .int (x6 + (1 : Int32)))]) C dX10_taste_143 5 rfl (by decide) (Nat.le_of_ble_eq_true rfl) [1, 2, 3, 4, 5, 0] rfl ?_
        refine x_goto (tgt := 99) C dX10_taste_146 (by decide) ?_
        exact ih x2 (x3 + (1 : Int32)) x4 v10 (x6 + (1 : Int32)) _ hf
      · have hf := pf_t c9 hf
        refine x_goto (tgt := 143) C dX10_taste_130 (by decide) ?_
        refine x_inc (c := (1 : Int32)) (L' := [(0, .ref (mO M)), (2, .int x2), (3, .int x3), (4, .int x4), (5, .int x5), (6, .int (x6 + (1 : Int32)))]) C dX10_taste_143 5 rfl (by decide) (Nat.le_of_ble_eq_true rfl) [1, 2, 3, 4, 5, 0] rfl ?_
        refine x_goto (tgt := 99) C dX10_taste_146 (by decide) ?_
        exact ih x2 x3 x4 x5 (x6 + (1 : Int32)) _ hf
def f_taste_40 (n : Nat) : Nat → Int32 → Int32 → MS → Option (Int32 × MS)
  | 0, _, _, _ => none
  | m + 1, x2, x3, σ => if x2 ≤ x3 then (ev ((1 : Int32) <<< ((ga σ 14 2) &&& 31)) fun v2 => ev (v2 - (1 : Int32)) fun v3 => f_taste_99 n n x2 (0 : Int32) v2 v3 (0 : Int32) σ) else (if inb x3 940 = true then if (f_isStatue σ (ga σ 1 (Int32.toNatClampNeg x3))) = 0 then (some ((-1 : Int32), σ)) else (if inb (x3 + (1 : Int32)) 940 = true then if (ga σ 1 (Int32.toNatClampNeg (x3 + (1 : Int32)))) ≤ (1 : Int32) then (f_taste_40 n m x2 (x3 + (2 : Int32)) σ) else (some ((-1 : Int32), σ)) else none) else none)
set_option maxHeartbeats 4000000 in
theorem w_taste_40 {K : KT} {M : MT} {r : Int32} {τ : MS} (n : Nat) (C : Kok K cX10_taste 10 RX10) (B : MB K M) (hr : (kMe K).sig.returnType = some .int) (dK : kR K = rmD 3) (hQ : KQm K M (some (.int r)) τ) : ∀ (m : Nat) (x2 : Int32) (x3 : Int32) (σ : MS) (hf : f_taste_40 n m x2 x3 σ = some (r, τ)), XJ K 10 (Wm K M σ) 40 [(0, .ref (mO M)), (2, .int x2), (3, .int x3)] [] := by
  intro m
  induction m with
  | zero => intro x2 x3 σ hf; cases hf
  | succ m ih =>
    intro x2 x3 σ hf
    rw [f_taste_40] at hf
    refine x_iload_n C dX10_taste_40 2 rfl ?_
    refine x_iload_n C dX10_taste_41 1 rfl ?_
    refine x_icmp_ge (tgt := 78) C dX10_taste_42 (by decide) (fun c1 => ?_) (fun c1 => ?_)
    · have hf := pf_t c1 hf
      refine x_iconst (0 : Int32) C dX10_taste_78 (by decide) ?_
      refine x_istore_n (L' := [(0, .ref (mO M)), (2, .int x2), (3, .int (0 : Int32))]) C dX10_taste_79 (Nat.le_of_ble_eq_true rfl) [1, 2, 0] rfl ?_
      refine x_iconst (1 : Int32) C dX10_taste_80 (by decide) ?_
      refine x_aload_n C dX10_taste_81 0 rfl ?_
      refine mg_14 C B dX10_taste_82 ?_
      refine x_iconst (2 : Int32) C dX10_taste_85 (by decide) ?_
      refine mlc_14 2 C B (by decide +kernel) dX10_taste_86 ?_
      refine x_ishl C dX10_taste_87 ?_
      obtain ⟨v2, ev2, hf⟩ := pf_e hf
      refine x_topir ev2 ?_
      refine x_istore (L' := [(0, .ref (mO M)), (2, .int x2), (3, .int (0 : Int32)), (4, .int v2)]) C dX10_taste_88 (Nat.le_of_ble_eq_true rfl) [1, 2, 3, 0] rfl ?_
      refine x_iload C dX10_taste_90 3 rfl ?_
      refine x_iconst (1 : Int32) C dX10_taste_92 (by decide) ?_
      refine x_isub C dX10_taste_93 ?_
      obtain ⟨v3, ev3, hf⟩ := pf_e hf
      refine x_topir ev3 ?_
      refine x_istore (L' := [(0, .ref (mO M)), (2, .int x2), (3, .int (0 : Int32)), (4, .int v2), (5, .int v3)]) C dX10_taste_94 (Nat.le_of_ble_eq_true rfl) [1, 2, 3, 4, 0] rfl ?_
      refine x_iconst (0 : Int32) C dX10_taste_96 (by decide) ?_
      refine x_istore (L' := [(0, .ref (mO M)), (2, .int x2), (3, .int (0 : Int32)), (4, .int v2), (5, .int v3), (6, .int (0 : Int32))]) C dX10_taste_97 (Nat.le_of_ble_eq_true rfl) [1, 2, 3, 4, 5, 0] rfl ?_
      exact w_taste_99 n C B hr dK hQ n x2 (0 : Int32) v2 v3 (0 : Int32) _ hf
    · have hf := pf_f c1 hf
      refine x_aload_n C dX10_taste_45 0 rfl ?_
      refine x_aload_n C dX10_taste_46 0 rfl ?_
      refine mg_1 C B dX10_taste_47 ?_
      refine x_iload_n C dX10_taste_50 2 rfl ?_
      obtain ⟨h4, hf⟩ := pf_in hf
      refine ml_1 C B h4 dX10_taste_51 ?_
      refine mc_isStatue C B dK (Nat.le_of_ble_eq_true rfl) rfl (Nat.le_of_ble_eq_true rfl) dX10_taste_52 ?_
      refine x_if_eq (tgt := 70) C dX10_taste_55 (by decide) (fun c5 => ?_) (fun c5 => ?_)
      · have hf := pf_t c5 hf
        refine x_iconst (-1 : Int32) C dX10_taste_70 (by decide) ?_
        obtain ⟨rfl, rfl⟩ := Prod.mk.inj (Option.some.inj hf)
        exact m_iret C hr hQ dX10_taste_71
      · have hf := pf_f c5 hf
        refine x_aload_n C dX10_taste_58 0 rfl ?_
        refine mg_1 C B dX10_taste_59 ?_
        refine x_iload_n C dX10_taste_62 2 rfl ?_
        refine x_iconst (1 : Int32) C dX10_taste_63 (by decide) ?_
        refine x_iadd C dX10_taste_64 ?_
        obtain ⟨h6, hf⟩ := pf_in hf
        refine ml_1 C B h6 dX10_taste_65 ?_
        refine x_iconst (1 : Int32) C dX10_taste_66 (by decide) ?_
        refine x_icmp_le (tgt := 72) C dX10_taste_67 (by decide) (fun c7 => ?_) (fun c7 => ?_)
        · have hf := pf_t c7 hf
          refine x_inc (c := (2 : Int32)) (L' := [(0, .ref (mO M)), (2, .int x2), (3, .int (x3 + (2 : Int32)))]) C dX10_taste_72 2 rfl (by decide) (Nat.le_of_ble_eq_true rfl) [1, 2, 0] rfl ?_
          refine x_goto (tgt := 40) C dX10_taste_75 (by decide) ?_
          exact ih x2 (x3 + (2 : Int32)) _ hf
        · have hf := pf_f c7 hf
          refine x_iconst (-1 : Int32) C dX10_taste_70 (by decide) ?_
          obtain ⟨rfl, rfl⟩ := Prod.mk.inj (Option.some.inj hf)
          exact m_iret C hr hQ dX10_taste_71
def f_taste (n : Nat) (x1 : Int32) (σ : MS) : Option (Int32 × MS) := ev (si σ 0 (0 : Int32)) fun s1 => ev (f_take s1) fun r2 => if (f_isWalker r2.2 x1) = 0 then (some ((-1 : Int32), r2.2)) else (if (r2.1 - r2.1 / (2 : Int32) * (2 : Int32)) = 0 then (if (f_isIn (r2.1 / (2 : Int32)) (1 : Int32) (20 : Int32)) = 0 then (some ((-1 : Int32), r2.2)) else (f_taste_40 n n r2.1 (0 : Int32) r2.2)) else (some ((-1 : Int32), r2.2)))
set_option maxHeartbeats 4000000 in
theorem w_taste_E {K : KT} {M : MT} {r : Int32} {τ : MS} (n : Nat) (C : Kok K cX10_taste 10 RX10) (B : MB K M) (hr : (kMe K).sig.returnType = some .int) (dK : kR K = rmD 3) (hQ : KQm K M (some (.int r)) τ) (x1 : Int32) (σ : MS) (hf : f_taste n x1 σ = some (r, τ)) : XJ K 10 (Wm K M σ) 0 [(0, .ref (mO M)), (1, .int x1)] [] := by
  unfold f_taste at hf
  refine x_aload_n C dX10_taste_0 0 rfl ?_
  refine x_iconst (0 : Int32) C dX10_taste_1 (by decide) ?_
  refine mp_0 C B dX10_taste_2 ?_
  obtain ⟨s1, es1, hf⟩ := pf_e hf
  refine m_ren es1 ?_
  refine x_aload_n C dX10_taste_5 0 rfl ?_
  obtain ⟨r2, er2, hf⟩ := pf_e hf
  refine mc_take C B dK (Nat.le_of_ble_eq_true rfl) er2.symm (Nat.le_of_ble_eq_true rfl) dX10_taste_6 ?_
  refine x_istore_n (L' := [(0, .ref (mO M)), (1, .int x1), (2, .int r2.1)]) C dX10_taste_9 (Nat.le_of_ble_eq_true rfl) [1, 2, 0] rfl ?_
  refine x_aload_n C dX10_taste_10 0 rfl ?_
  refine x_iload_n C dX10_taste_11 1 rfl ?_
  refine mc_isWalker C B dK (Nat.le_of_ble_eq_true rfl) rfl (Nat.le_of_ble_eq_true rfl) dX10_taste_12 ?_
  refine x_if_eq (tgt := 36) C dX10_taste_15 (by decide) (fun c3 => ?_) (fun c3 => ?_)
  · have hf := pf_t c3 hf
    refine x_iconst (-1 : Int32) C dX10_taste_36 (by decide) ?_
    obtain ⟨rfl, rfl⟩ := Prod.mk.inj (Option.some.inj hf)
    exact m_iret C hr hQ dX10_taste_37
  · have hf := pf_f c3 hf
    refine x_iload_n C dX10_taste_18 2 rfl ?_
    refine x_iconst (2 : Int32) C dX10_taste_19 (by decide) ?_
    refine x_irem C (by decide) dX10_taste_20 ?_
    refine x_if_ne (tgt := 36) C dX10_taste_21 (by decide) (fun c4 => ?_) (fun c4 => ?_)
    · have hf := pf_f c4 hf
      refine x_iconst (-1 : Int32) C dX10_taste_36 (by decide) ?_
      obtain ⟨rfl, rfl⟩ := Prod.mk.inj (Option.some.inj hf)
      exact m_iret C hr hQ dX10_taste_37
    · have hf := pf_t c4 hf
      refine x_iload_n C dX10_taste_24 2 rfl ?_
      refine x_iconst (2 : Int32) C dX10_taste_25 (by decide) ?_
      refine x_idiv C (by decide) dX10_taste_26 ?_
      refine x_iconst (1 : Int32) C dX10_taste_27 (by decide) ?_
      refine x_bipush (20 : Int32) C dX10_taste_28 (by decide) ?_
      refine mc_isIn C B dK (Nat.le_of_ble_eq_true rfl) rfl (Nat.le_of_ble_eq_true rfl) dX10_taste_30 ?_
      refine x_if_ne (tgt := 38) C dX10_taste_33 (by decide) (fun c5 => ?_) (fun c5 => ?_)
      · have hf := pf_f c5 hf
        refine x_iconst (0 : Int32) C dX10_taste_38 (by decide) ?_
        refine x_istore_n (L' := [(0, .ref (mO M)), (2, .int r2.1), (3, .int (0 : Int32))]) C dX10_taste_39 (Nat.le_of_ble_eq_true rfl) [1, 3, 0] rfl ?_
        exact w_taste_40 n C B hr dK hQ n r2.1 (0 : Int32) _ hf
      · have hf := pf_t c5 hf
        refine x_iconst (-1 : Int32) C dX10_taste_36 (by decide) ?_
        obtain ⟨rfl, rfl⟩ := Prod.mk.inj (Option.some.inj hf)
        exact m_iret C hr hQ dX10_taste_37
theorem met_taste {M : MT} {v : (Int32 × MS)} {n : Nat} {σ : MS} {x1 : Int32} {l : Launch} (hc : (mCl M)[mCi M]? = some (RX10, TX10, 61)) (hf : f_taste n x1 σ = some v) : Met l yX10_taste (ws_ yX10_taste cX10_taste 10 (some .int)) (rmD 3) (va_Pc [.ref (mO M), .int x1] (MU M σ)) (Qm M (some (.int v.1)) v.2) 0 0 (mAd M) :=
  m_met [.ref (mO M), .int x1] (by decide) rfl (Nat.le_of_ble_eq_true rfl) hc (fun K hl hR hr C B hQ => w_taste_E _ C B hr hR hQ _ _ hf)
def f_surely (σ : MS) : (Int32 × MS) := ev (si σ 0 (0 : Int32)) fun s1 => (gi s1 45, s1)
set_option maxHeartbeats 4000000 in
theorem w_surely_E {K : KT} {M : MT} {r : Int32} {τ : MS} (C : Kok K cX10_surely 1 RX10) (B : MB K M) (hr : (kMe K).sig.returnType = some .int) (dK : kR K = rmD 1) (hQ : KQm K M (some (.int r)) τ) (σ : MS) (hf : f_surely σ = (r, τ)) : XJ K 1 (Wm K M σ) 0 [(0, .ref (mO M))] [] := by
  unfold f_surely at hf
  refine x_aload_n C dX10_surely_0 0 rfl ?_
  refine x_iconst (0 : Int32) C dX10_surely_1 (by decide) ?_
  refine mp_0 C B dX10_surely_2 ?_
  obtain ⟨s1, es1, hf⟩ := pf_e hf
  refine m_ren es1 ?_
  refine x_aload_n C dX10_surely_5 0 rfl ?_
  refine mg_45 C B dX10_surely_6 ?_
  obtain ⟨rfl, rfl⟩ := Prod.mk.inj hf
  exact m_iret C hr hQ dX10_surely_9
theorem met_surely {M : MT} {v : (Int32 × MS)} {σ : MS} {l : Launch} (hc : (mCl M)[mCi M]? = some (RX10, TX10, 61)) (hf : f_surely σ = v) : Met l yX10_surely (ws_ yX10_surely cX10_surely 1 (some .int)) (rmD 1) (va_Pc [.ref (mO M)] (MU M σ)) (Qm M (some (.int v.1)) v.2) 0 0 (mAd M) :=
  m_met [.ref (mO M)] (by decide) rfl (Nat.le_of_ble_eq_true rfl) hc (fun K hl hR hr C B hQ => w_surely_E C B hr hR hQ _ hf)
def f_tells (σ : MS) : (Int32 × MS) := ev (si σ 0 (0 : Int32)) fun s1 => (gi s1 46, s1)
set_option maxHeartbeats 4000000 in
theorem w_tells_E {K : KT} {M : MT} {r : Int32} {τ : MS} (C : Kok K cX10_tells 1 RX10) (B : MB K M) (hr : (kMe K).sig.returnType = some .int) (dK : kR K = rmD 1) (hQ : KQm K M (some (.int r)) τ) (σ : MS) (hf : f_tells σ = (r, τ)) : XJ K 1 (Wm K M σ) 0 [(0, .ref (mO M))] [] := by
  unfold f_tells at hf
  refine x_aload_n C dX10_tells_0 0 rfl ?_
  refine x_iconst (0 : Int32) C dX10_tells_1 (by decide) ?_
  refine mp_0 C B dX10_tells_2 ?_
  obtain ⟨s1, es1, hf⟩ := pf_e hf
  refine m_ren es1 ?_
  refine x_aload_n C dX10_tells_5 0 rfl ?_
  refine mg_46 C B dX10_tells_6 ?_
  obtain ⟨rfl, rfl⟩ := Prod.mk.inj hf
  exact m_iret C hr hQ dX10_tells_9
theorem met_tells {M : MT} {v : (Int32 × MS)} {σ : MS} {l : Launch} (hc : (mCl M)[mCi M]? = some (RX10, TX10, 61)) (hf : f_tells σ = v) : Met l yX10_tells (ws_ yX10_tells cX10_tells 1 (some .int)) (rmD 1) (va_Pc [.ref (mO M)] (MU M σ)) (Qm M (some (.int v.1)) v.2) 0 0 (mAd M) :=
  m_met [.ref (mO M)] (by decide) rfl (Nat.le_of_ble_eq_true rfl) hc (fun K hl hR hr C B hQ => w_tells_E C B hr hR hQ _ hf)
def f_bits_4 (n : Nat) : Nat → Int32 → Int32 → Option Int32
  | 0, _, _ => none
  | m + 1, x1, x2 => if x2 = 0 then (some x1) else (ev (x2 &&& (x2 - (1 : Int32))) fun v2 => f_bits_4 n m (x1 + (1 : Int32)) v2)
set_option maxHeartbeats 4000000 in
theorem w_bits_4 {K : KT} {M : MT} {r : Int32} {σ : MS} (n : Nat) (C : Kok K cX10_bits 3 RX10) (B : MB K M) (hr : (kMe K).sig.returnType = some .int) (dK : kR K = rmD 1) (hQ : KQm K M (some (.int r)) σ) : ∀ (m : Nat) (x1 : Int32) (x2 : Int32) (hf : f_bits_4 n m x1 x2 = some r), XJ K 3 (Wm K M σ) 4 [(1, .int x1), (2, .int x2)] [] := by
  intro m
  induction m with
  | zero => intro x1 x2 hf; cases hf
  | succ m ih =>
    intro x1 x2 hf
    rw [f_bits_4] at hf
    refine x_iload_n C dX10_bits_4 1 rfl ?_
    refine x_if_eq (tgt := 20) C dX10_bits_5 (by decide) (fun c1 => ?_) (fun c1 => ?_)
    · have hf := pf_t c1 hf
      refine x_iload_n C dX10_bits_20 0 rfl ?_
      obtain rfl := Option.some.inj hf
      exact m_iret C hr hQ dX10_bits_21
    · have hf := pf_f c1 hf
      refine x_inc (c := (1 : Int32)) (L' := [(1, .int (x1 + (1 : Int32))), (2, .int x2)]) C dX10_bits_8 0 rfl (by decide) (Nat.le_of_ble_eq_true rfl) [0, 1] rfl ?_
      refine x_iload_n C dX10_bits_11 1 rfl ?_
      refine x_iload_n C dX10_bits_12 1 rfl ?_
      refine x_iconst (1 : Int32) C dX10_bits_13 (by decide) ?_
      refine x_isub C dX10_bits_14 ?_
      refine x_iand C dX10_bits_15 ?_
      obtain ⟨v2, ev2, hf⟩ := pf_e hf
      refine x_topir ev2 ?_
      refine x_istore_n (L' := [(1, .int (x1 + (1 : Int32))), (2, .int v2)]) C dX10_bits_16 (Nat.le_of_ble_eq_true rfl) [1, 0] rfl ?_
      refine x_goto (tgt := 4) C dX10_bits_17 (by decide) ?_
      exact ih (x1 + (1 : Int32)) v2 hf
def f_bits (n : Nat) (x0 : Int32) : Option Int32 := f_bits_4 n n (0 : Int32) x0
set_option maxHeartbeats 4000000 in
theorem w_bits_E {K : KT} {M : MT} {r : Int32} {σ : MS} (n : Nat) (C : Kok K cX10_bits 3 RX10) (B : MB K M) (hr : (kMe K).sig.returnType = some .int) (dK : kR K = rmD 1) (hQ : KQm K M (some (.int r)) σ) (x0 : Int32) (hf : f_bits n x0 = some r) : XJ K 3 (Wm K M σ) 0 [(0, .int x0)] [] := by
  unfold f_bits at hf
  refine x_iconst (0 : Int32) C dX10_bits_0 (by decide) ?_
  refine x_istore_n (L' := [(0, .int x0), (1, .int (0 : Int32))]) C dX10_bits_1 (Nat.le_of_ble_eq_true rfl) [1, 0] rfl ?_
  refine x_iload_n C dX10_bits_2 0 rfl ?_
  refine x_istore_n (L' := [(1, .int (0 : Int32)), (2, .int x0)]) C dX10_bits_3 (Nat.le_of_ble_eq_true rfl) [2, 0] rfl ?_
  exact w_bits_4 n C B hr dK hQ n (0 : Int32) x0 hf
theorem met_bits {M : MT} {v : Int32} {n : Nat} {σ : MS} {x0 : Int32} {l : Launch} (hc : (mCl M)[mCi M]? = some (RX10, TX10, 61)) (hf : f_bits n x0 = some v) : Met l yX10_bits (ws_ yX10_bits cX10_bits 3 (some .int)) (rmD 1) (va_Pc [.int x0] (MU M σ)) (Qm M (some (.int v)) σ) 0 0 (mAd M) :=
  m_met [.int x0] (by decide) rfl (Nat.le_of_ble_eq_true rfl) hc (fun K hl hR hr C B hQ => w_bits_E _ C B hr hR hQ _ hf)
theorem mc_bits {K : KT} {M : MT} {cc : ByteArray} {nL pc dk : Nat} {L : List (Nat × Value)} {rest : List Value} {σ : MS} {v : Int32} {n : Nat} {x0 : Int32} (C : Kok K cc nL RX10) (B : MB K M) (dK : kR K = rmD dk) (hd : 1 + 1 ≤ dk) (hf : f_bits n x0 = some v) (hW : (rest.map fun v => v.category).sum ≤ 8) (dd : decode cc pc = .ok (.invokestatic 416, 3)) (kk2 : XJ K nL (Wm K M σ) (pc + 3) L ((.int v) :: rest)) : XJ K nL (Wm K M σ) pc L (.int x0 :: rest) :=
  m_callS (rest := rest) (v := (some (.int v))) [.int x0] 1 rfl C B dK hd (Nat.le_of_ble_eq_true rfl) (lw_S q2370 q2371 q133 q2372) (by decide +kernel) (met_bits B.2 hf) rfl hW dd kk2
def f_plot_27 (n : Nat) : Nat → Int32 → Int32 → Int32 → MS → Option (Int32 × MS)
  | 0, _, _, _, _ => none
  | m + 1, x1, x2, x3, σ => if ((1 : Int32) <<< ((ga σ 14 4) &&& 31)) ≤ x3 then (if x2 = (-1 : Int32) then (some ((-1 : Int32), σ)) else (ev (si σ 47 x2) fun s3 => (f_bits n x2).bind fun r4 => some (r4, s3))) else (if x2 = (-1 : Int32) then ((f_isSolvent n σ x1 x3).bind fun r6 => if r6 = 0 then (f_plot_27 n m x1 x3 (x3 + (1 : Int32)) σ) else (f_plot_27 n m x1 x2 (x3 + (1 : Int32)) σ)) else ((f_bits n x3).bind fun r8 => (f_bits n x2).bind fun r9 => if r9 ≤ r8 then (f_plot_27 n m x1 x2 (x3 + (1 : Int32)) σ) else ((f_isSolvent n σ x1 x3).bind fun r11 => if r11 = 0 then (f_plot_27 n m x1 x3 (x3 + (1 : Int32)) σ) else (f_plot_27 n m x1 x2 (x3 + (1 : Int32)) σ))))
set_option maxHeartbeats 4000000 in
theorem w_plot_27 {K : KT} {M : MT} {r : Int32} {τ : MS} (n : Nat) (C : Kok K cX10_plot 4 RX10) (B : MB K M) (hr : (kMe K).sig.returnType = some .int) (dK : kR K = rmD 4) (hQ : KQm K M (some (.int r)) τ) : ∀ (m : Nat) (x1 : Int32) (x2 : Int32) (x3 : Int32) (σ : MS) (hf : f_plot_27 n m x1 x2 x3 σ = some (r, τ)), XJ K 4 (Wm K M σ) 27 [(0, .ref (mO M)), (1, .int x1), (2, .int x2), (3, .int x3)] [] := by
  intro m
  induction m with
  | zero => intro x1 x2 x3 σ hf; cases hf
  | succ m ih =>
    intro x1 x2 x3 σ hf
    rw [f_plot_27] at hf
    refine x_iload_n C dX10_plot_27 3 rfl ?_
    refine x_iconst (1 : Int32) C dX10_plot_28 (by decide) ?_
    refine x_aload_n C dX10_plot_29 0 rfl ?_
    refine mg_14 C B dX10_plot_30 ?_
    refine x_iconst (4 : Int32) C dX10_plot_33 (by decide) ?_
    refine mlc_14 4 C B (by decide +kernel) dX10_plot_34 ?_
    refine x_ishl C dX10_plot_35 ?_
    refine x_icmp_ge (tgt := 72) C dX10_plot_36 (by decide) (fun c1 => ?_) (fun c1 => ?_)
    · have hf := pf_t c1 hf
      refine x_iload_n C dX10_plot_72 2 rfl ?_
      refine x_iconst (-1 : Int32) C dX10_plot_73 (by decide) ?_
      refine x_icmp_ne (tgt := 79) C dX10_plot_74 (by decide) (fun c2 => ?_) (fun c2 => ?_)
      · have hf := pf_f c2 hf
        refine x_aload_n C dX10_plot_79 0 rfl ?_
        refine x_iload_n C dX10_plot_80 2 rfl ?_
        refine mp_47 C B dX10_plot_81 ?_
        obtain ⟨s3, es3, hf⟩ := pf_e hf
        refine m_ren es3 ?_
        refine x_iload_n C dX10_plot_84 2 rfl ?_
        obtain ⟨r4, er4, hf⟩ := pf_b hf
        refine mc_bits C B dK (Nat.le_of_ble_eq_true rfl) er4 (Nat.le_of_ble_eq_true rfl) dX10_plot_85 ?_
        obtain ⟨rfl, rfl⟩ := Prod.mk.inj (Option.some.inj hf)
        exact m_iret C hr hQ dX10_plot_88
      · have hf := pf_t c2 hf
        refine x_iconst (-1 : Int32) C dX10_plot_77 (by decide) ?_
        obtain ⟨rfl, rfl⟩ := Prod.mk.inj (Option.some.inj hf)
        exact m_iret C hr hQ dX10_plot_78
    · have hf := pf_f c1 hf
      refine x_iload_n C dX10_plot_39 2 rfl ?_
      refine x_iconst (-1 : Int32) C dX10_plot_40 (by decide) ?_
      refine x_icmp_eq (tgt := 55) C dX10_plot_41 (by decide) (fun c5 => ?_) (fun c5 => ?_)
      · have hf := pf_t c5 hf
        refine x_aload_n C dX10_plot_55 0 rfl ?_
        refine x_iload_n C dX10_plot_56 1 rfl ?_
        refine x_iload_n C dX10_plot_57 3 rfl ?_
        obtain ⟨r6, er6, hf⟩ := pf_b hf
        refine mc_isSolvent C B dK (Nat.le_of_ble_eq_true rfl) er6 (Nat.le_of_ble_eq_true rfl) dX10_plot_58 ?_
        refine x_if_ne (tgt := 66) C dX10_plot_61 (by decide) (fun c7 => ?_) (fun c7 => ?_)
        · have hf := pf_f c7 hf
          refine x_inc (c := (1 : Int32)) (L' := [(0, .ref (mO M)), (1, .int x1), (2, .int x2), (3, .int (x3 + (1 : Int32)))]) C dX10_plot_66 3 rfl (by decide) (Nat.le_of_ble_eq_true rfl) [1, 2, 3, 0] rfl ?_
          refine x_goto (tgt := 27) C dX10_plot_69 (by decide) ?_
          exact ih x1 x2 (x3 + (1 : Int32)) _ hf
        · have hf := pf_t c7 hf
          refine x_iload_n C dX10_plot_64 3 rfl ?_
          refine x_istore_n (L' := [(0, .ref (mO M)), (1, .int x1), (2, .int x3), (3, .int x3)]) C dX10_plot_65 (Nat.le_of_ble_eq_true rfl) [1, 2, 0, 3] rfl ?_
          refine x_inc (c := (1 : Int32)) (L' := [(0, .ref (mO M)), (1, .int x1), (2, .int x3), (3, .int (x3 + (1 : Int32)))]) C dX10_plot_66 3 rfl (by decide) (Nat.le_of_ble_eq_true rfl) [1, 2, 3, 0] rfl ?_
          refine x_goto (tgt := 27) C dX10_plot_69 (by decide) ?_
          exact ih x1 x3 (x3 + (1 : Int32)) _ hf
      · have hf := pf_f c5 hf
        refine x_iload_n C dX10_plot_44 3 rfl ?_
        obtain ⟨r8, er8, hf⟩ := pf_b hf
        refine mc_bits C B dK (Nat.le_of_ble_eq_true rfl) er8 (Nat.le_of_ble_eq_true rfl) dX10_plot_45 ?_
        refine x_iload_n C dX10_plot_48 2 rfl ?_
        obtain ⟨r9, er9, hf⟩ := pf_b hf
        refine mc_bits C B dK (Nat.le_of_ble_eq_true rfl) er9 (Nat.le_of_ble_eq_true rfl) dX10_plot_49 ?_
        refine x_icmp_ge (tgt := 66) C dX10_plot_52 (by decide) (fun c10 => ?_) (fun c10 => ?_)
        · have hf := pf_t c10 hf
          refine x_inc (c := (1 : Int32)) (L' := [(0, .ref (mO M)), (1, .int x1), (2, .int x2), (3, .int (x3 + (1 : Int32)))]) C dX10_plot_66 3 rfl (by decide) (Nat.le_of_ble_eq_true rfl) [1, 2, 3, 0] rfl ?_
          refine x_goto (tgt := 27) C dX10_plot_69 (by decide) ?_
          exact ih x1 x2 (x3 + (1 : Int32)) _ hf
        · have hf := pf_f c10 hf
          refine x_aload_n C dX10_plot_55 0 rfl ?_
          refine x_iload_n C dX10_plot_56 1 rfl ?_
          refine x_iload_n C dX10_plot_57 3 rfl ?_
          obtain ⟨r11, er11, hf⟩ := pf_b hf
          refine mc_isSolvent C B dK (Nat.le_of_ble_eq_true rfl) er11 (Nat.le_of_ble_eq_true rfl) dX10_plot_58 ?_
          refine x_if_ne (tgt := 66) C dX10_plot_61 (by decide) (fun c12 => ?_) (fun c12 => ?_)
          · have hf := pf_f c12 hf
            refine x_inc (c := (1 : Int32)) (L' := [(0, .ref (mO M)), (1, .int x1), (2, .int x2), (3, .int (x3 + (1 : Int32)))]) C dX10_plot_66 3 rfl (by decide) (Nat.le_of_ble_eq_true rfl) [1, 2, 3, 0] rfl ?_
            refine x_goto (tgt := 27) C dX10_plot_69 (by decide) ?_
            exact ih x1 x2 (x3 + (1 : Int32)) _ hf
          · have hf := pf_t c12 hf
            refine x_iload_n C dX10_plot_64 3 rfl ?_
            refine x_istore_n (L' := [(0, .ref (mO M)), (1, .int x1), (2, .int x3), (3, .int x3)]) C dX10_plot_65 (Nat.le_of_ble_eq_true rfl) [1, 2, 0, 3] rfl ?_
            refine x_inc (c := (1 : Int32)) (L' := [(0, .ref (mO M)), (1, .int x1), (2, .int x3), (3, .int (x3 + (1 : Int32)))]) C dX10_plot_66 3 rfl (by decide) (Nat.le_of_ble_eq_true rfl) [1, 2, 3, 0] rfl ?_
            refine x_goto (tgt := 27) C dX10_plot_69 (by decide) ?_
            exact ih x1 x3 (x3 + (1 : Int32)) _ hf
def f_plot (n : Nat) (x1 : Int32) (σ : MS) : Option (Int32 × MS) := ev (si σ 0 (0 : Int32)) fun s1 => if (f_isStatue s1 x1) = 0 then (some ((-1 : Int32), s1)) else (if (f_isEvicted s1 x1) = 0 then (f_plot_27 n n x1 (-1 : Int32) (0 : Int32) s1) else (some ((-1 : Int32), s1)))
set_option maxHeartbeats 4000000 in
theorem w_plot_E {K : KT} {M : MT} {r : Int32} {τ : MS} (n : Nat) (C : Kok K cX10_plot 4 RX10) (B : MB K M) (hr : (kMe K).sig.returnType = some .int) (dK : kR K = rmD 4) (hQ : KQm K M (some (.int r)) τ) (x1 : Int32) (σ : MS) (hf : f_plot n x1 σ = some (r, τ)) : XJ K 4 (Wm K M σ) 0 [(0, .ref (mO M)), (1, .int x1)] [] := by
  unfold f_plot at hf
  refine x_aload_n C dX10_plot_0 0 rfl ?_
  refine x_iconst (0 : Int32) C dX10_plot_1 (by decide) ?_
  refine mp_0 C B dX10_plot_2 ?_
  obtain ⟨s1, es1, hf⟩ := pf_e hf
  refine m_ren es1 ?_
  refine x_aload_n C dX10_plot_5 0 rfl ?_
  refine x_iload_n C dX10_plot_6 1 rfl ?_
  refine mc_isStatue C B dK (Nat.le_of_ble_eq_true rfl) rfl (Nat.le_of_ble_eq_true rfl) dX10_plot_7 ?_
  refine x_if_eq (tgt := 21) C dX10_plot_10 (by decide) (fun c2 => ?_) (fun c2 => ?_)
  · have hf := pf_t c2 hf
    refine x_iconst (-1 : Int32) C dX10_plot_21 (by decide) ?_
    obtain ⟨rfl, rfl⟩ := Prod.mk.inj (Option.some.inj hf)
    exact m_iret C hr hQ dX10_plot_22
  · have hf := pf_f c2 hf
    refine x_aload_n C dX10_plot_13 0 rfl ?_
    refine x_iload_n C dX10_plot_14 1 rfl ?_
    refine mc_isEvicted C B dK (Nat.le_of_ble_eq_true rfl) rfl (Nat.le_of_ble_eq_true rfl) dX10_plot_15 ?_
    refine x_if_eq (tgt := 23) C dX10_plot_18 (by decide) (fun c3 => ?_) (fun c3 => ?_)
    · have hf := pf_t c3 hf
      refine x_iconst (-1 : Int32) C dX10_plot_23 (by decide) ?_
      refine x_istore_n (L' := [(0, .ref (mO M)), (1, .int x1), (2, .int (-1 : Int32))]) C dX10_plot_24 (Nat.le_of_ble_eq_true rfl) [1, 2, 0] rfl ?_
      refine x_iconst (0 : Int32) C dX10_plot_25 (by decide) ?_
      refine x_istore_n (L' := [(0, .ref (mO M)), (1, .int x1), (2, .int (-1 : Int32)), (3, .int (0 : Int32))]) C dX10_plot_26 (Nat.le_of_ble_eq_true rfl) [1, 2, 3, 0] rfl ?_
      exact w_plot_27 n C B hr dK hQ n x1 (-1 : Int32) (0 : Int32) _ hf
    · have hf := pf_f c3 hf
      refine x_iconst (-1 : Int32) C dX10_plot_21 (by decide) ?_
      obtain ⟨rfl, rfl⟩ := Prod.mk.inj (Option.some.inj hf)
      exact m_iret C hr hQ dX10_plot_22
theorem met_plot {M : MT} {v : (Int32 × MS)} {n : Nat} {σ : MS} {x1 : Int32} {l : Launch} (hc : (mCl M)[mCi M]? = some (RX10, TX10, 61)) (hf : f_plot n x1 σ = some v) : Met l yX10_plot (ws_ yX10_plot cX10_plot 4 (some .int)) (rmD 4) (va_Pc [.ref (mO M), .int x1] (MU M σ)) (Qm M (some (.int v.1)) v.2) 0 0 (mAd M) :=
  m_met [.ref (mO M), .int x1] (by decide) rfl (Nat.le_of_ble_eq_true rfl) hc (fun K hl hR hr C B hQ => w_plot_E _ C B hr hR hQ _ _ hf)
def f_plotters (σ : MS) : (Int32 × MS) := ev (si σ 0 (0 : Int32)) fun s1 => (gi s1 47, s1)
set_option maxHeartbeats 4000000 in
theorem w_plotters_E {K : KT} {M : MT} {r : Int32} {τ : MS} (C : Kok K cX10_plotters 1 RX10) (B : MB K M) (hr : (kMe K).sig.returnType = some .int) (dK : kR K = rmD 1) (hQ : KQm K M (some (.int r)) τ) (σ : MS) (hf : f_plotters σ = (r, τ)) : XJ K 1 (Wm K M σ) 0 [(0, .ref (mO M))] [] := by
  unfold f_plotters at hf
  refine x_aload_n C dX10_plotters_0 0 rfl ?_
  refine x_iconst (0 : Int32) C dX10_plotters_1 (by decide) ?_
  refine mp_0 C B dX10_plotters_2 ?_
  obtain ⟨s1, es1, hf⟩ := pf_e hf
  refine m_ren es1 ?_
  refine x_aload_n C dX10_plotters_5 0 rfl ?_
  refine mg_47 C B dX10_plotters_6 ?_
  obtain ⟨rfl, rfl⟩ := Prod.mk.inj hf
  exact m_iret C hr hQ dX10_plotters_9
theorem met_plotters {M : MT} {v : (Int32 × MS)} {σ : MS} {l : Launch} (hc : (mCl M)[mCi M]? = some (RX10, TX10, 61)) (hf : f_plotters σ = v) : Met l yX10_plotters (ws_ yX10_plotters cX10_plotters 1 (some .int)) (rmD 1) (va_Pc [.ref (mO M)] (MU M σ)) (Qm M (some (.int v.1)) v.2) 0 0 (mAd M) :=
  m_met [.ref (mO M)] (by decide) rfl (Nat.le_of_ble_eq_true rfl) hc (fun K hl hR hr C B hQ => w_plotters_E C B hr hR hQ _ hf)
def f_isTroddenBy_17 (n : Nat) (σ : MS) (k2 : Int32 → Int32 → Option Int32) : Nat → Int32 → Int32 → Int32 → Int32 → Option Int32
  | 0, _, _, _, _ => none
  | m + 1, x1, x2, x3, x4 => if (ga σ 14 4) ≤ x4 then (if inb x2 940 = true then if x3 = (ga σ 1 (Int32.toNatClampNeg x2)) then (k2 x1 (x2 + (1 : Int32))) else (some (0 : Int32)) else none) else (if (f_has x1 x4) = 0 then (f_isTroddenBy_17 n σ k2 m x1 x2 x3 (x4 + (1 : Int32))) else ((f_comes n σ x4 x2).bind fun r5 => if r5 = 0 then (f_isTroddenBy_17 n σ k2 m x1 x2 x3 (x4 + (1 : Int32))) else (f_isTroddenBy_17 n σ k2 m x1 x2 (x3 + (1 : Int32)) (x4 + (1 : Int32)))))
set_option maxHeartbeats 4000000 in
theorem w_isTroddenBy_17 {K : KT} {M : MT} {r : Int32} (n : Nat) (σ : MS) (k2 : Int32 → Int32 → Option Int32) (C : Kok K cX10_isTroddenBy 5 RX10) (B : MB K M) (hr : (kMe K).sig.returnType = some .boolean) (dK : kR K = rmD 2) (hQ : KQm K M (some (.int r)) σ)  (hk2 : ∀ (x1 : Int32) (x2 : Int32), k2 x1 x2 = some r → XJ K 5 (Wm K M σ) 2 [(0, .ref (mO M)), (1, .int x1), (2, .int x2)] []) : ∀ (m : Nat) (x1 : Int32) (x2 : Int32) (x3 : Int32) (x4 : Int32) (hf : f_isTroddenBy_17 n σ k2 m x1 x2 x3 x4 = some r), XJ K 5 (Wm K M σ) 17 [(0, .ref (mO M)), (1, .int x1), (2, .int x2), (3, .int x3), (4, .int x4)] [] := by
  intro m
  induction m with
  | zero => intro x1 x2 x3 x4 hf; cases hf
  | succ m ih =>
    intro x1 x2 x3 x4 hf
    rw [f_isTroddenBy_17] at hf
    refine x_iload C dX10_isTroddenBy_17 4 rfl ?_
    refine x_aload_n C dX10_isTroddenBy_19 0 rfl ?_
    refine mg_14 C B dX10_isTroddenBy_20 ?_
    refine x_iconst (4 : Int32) C dX10_isTroddenBy_23 (by decide) ?_
    refine mlc_14 4 C B (by decide +kernel) dX10_isTroddenBy_24 ?_
    refine x_icmp_ge (tgt := 56) C dX10_isTroddenBy_25 (by decide) (fun c1 => ?_) (fun c1 => ?_)
    · have hf := pf_t c1 hf
      refine x_iload_n C dX10_isTroddenBy_56 3 rfl ?_
      refine x_aload_n C dX10_isTroddenBy_57 0 rfl ?_
      refine mg_1 C B dX10_isTroddenBy_58 ?_
      refine x_iload_n C dX10_isTroddenBy_61 2 rfl ?_
      obtain ⟨h2, hf⟩ := pf_in hf
      refine ml_1 C B h2 dX10_isTroddenBy_62 ?_
      refine x_icmp_eq (tgt := 68) C dX10_isTroddenBy_63 (by decide) (fun c3 => ?_) (fun c3 => ?_)
      · have hf := pf_t c3 hf
        refine x_inc (c := (1 : Int32)) (L' := [(0, .ref (mO M)), (1, .int x1), (2, .int (x2 + (1 : Int32)))]) C dX10_isTroddenBy_68 2 rfl (by decide) (Nat.le_of_ble_eq_true rfl) [1, 2, 0] rfl ?_
        refine x_goto (tgt := 2) C dX10_isTroddenBy_71 (by decide) ?_
        exact hk2 x1 (x2 + (1 : Int32)) hf
      · have hf := pf_f c3 hf
        refine x_iconst (0 : Int32) C dX10_isTroddenBy_66 (by decide) ?_
        obtain rfl := Option.some.inj hf
        exact m_zret C hr (Or.inl rfl) hQ dX10_isTroddenBy_67
    · have hf := pf_f c1 hf
      refine x_iload_n C dX10_isTroddenBy_28 1 rfl ?_
      refine x_iload C dX10_isTroddenBy_29 4 rfl ?_
      refine mc_has C B dK (Nat.le_of_ble_eq_true rfl) rfl (Nat.le_of_ble_eq_true rfl) dX10_isTroddenBy_31 ?_
      refine x_if_eq (tgt := 50) C dX10_isTroddenBy_34 (by decide) (fun c4 => ?_) (fun c4 => ?_)
      · have hf := pf_t c4 hf
        refine x_inc (c := (1 : Int32)) (L' := [(0, .ref (mO M)), (1, .int x1), (2, .int x2), (3, .int x3), (4, .int (x4 + (1 : Int32)))]) C dX10_isTroddenBy_50 4 rfl (by decide) (Nat.le_of_ble_eq_true rfl) [1, 2, 3, 4, 0] rfl ?_
        refine x_goto (tgt := 17) C dX10_isTroddenBy_53 (by decide) ?_
        exact ih x1 x2 x3 (x4 + (1 : Int32)) hf
      · have hf := pf_f c4 hf
        refine x_aload_n C dX10_isTroddenBy_37 0 rfl ?_
        refine x_iload C dX10_isTroddenBy_38 4 rfl ?_
        refine x_iload_n C dX10_isTroddenBy_40 2 rfl ?_
        obtain ⟨r5, er5, hf⟩ := pf_b hf
        refine mc_comes C B dK (Nat.le_of_ble_eq_true rfl) er5 (Nat.le_of_ble_eq_true rfl) dX10_isTroddenBy_41 ?_
        refine x_if_eq (tgt := 50) C dX10_isTroddenBy_44 (by decide) (fun c6 => ?_) (fun c6 => ?_)
        · have hf := pf_t c6 hf
          refine x_inc (c := (1 : Int32)) (L' := [(0, .ref (mO M)), (1, .int x1), (2, .int x2), (3, .int x3), (4, .int (x4 + (1 : Int32)))]) C dX10_isTroddenBy_50 4 rfl (by decide) (Nat.le_of_ble_eq_true rfl) [1, 2, 3, 4, 0] rfl ?_
          refine x_goto (tgt := 17) C dX10_isTroddenBy_53 (by decide) ?_
          exact ih x1 x2 x3 (x4 + (1 : Int32)) hf
        · have hf := pf_f c6 hf
          refine x_inc (c := (1 : Int32)) (L' := [(0, .ref (mO M)), (1, .int x1), (2, .int x2), (3, .int (x3 + (1 : Int32))), (4, .int x4)]) C dX10_isTroddenBy_47 3 rfl (by decide) (Nat.le_of_ble_eq_true rfl) [1, 2, 3, 0, 4] rfl ?_
          refine x_inc (c := (1 : Int32)) (L' := [(0, .ref (mO M)), (1, .int x1), (2, .int x2), (3, .int (x3 + (1 : Int32))), (4, .int (x4 + (1 : Int32)))]) C dX10_isTroddenBy_50 4 rfl (by decide) (Nat.le_of_ble_eq_true rfl) [1, 2, 3, 4, 0] rfl ?_
          refine x_goto (tgt := 17) C dX10_isTroddenBy_53 (by decide) ?_
          exact ih x1 x2 (x3 + (1 : Int32)) (x4 + (1 : Int32)) hf
theorem bz_isTroddenBy_17 {r : Int32} {n : Nat} {σ : MS} {k2 : Int32 → Int32 → Option Int32}  (hk2 : ∀ (x1 : Int32) (x2 : Int32), k2 x1 x2 = some r → r = 0 ∨ r = 1) : ∀ (m : Nat) (x1 : Int32) (x2 : Int32) (x3 : Int32) (x4 : Int32) (hf : f_isTroddenBy_17 n σ k2 m x1 x2 x3 x4 = some r), r = 0 ∨ r = 1 := by
  intro m
  induction m with
  | zero => intro x1 x2 x3 x4 hf; cases hf
  | succ m ih =>
    intro x1 x2 x3 x4 hf
    rw [f_isTroddenBy_17] at hf
    by_cases c1 : (ga σ 14 4) ≤ x4
    · have hf := pf_t c1 hf
      obtain ⟨h2, hf⟩ := pf_in hf
      by_cases c3 : x3 = (ga σ 1 (Int32.toNatClampNeg x2))
      · have hf := pf_t c3 hf
        exact hk2 x1 (x2 + (1 : Int32)) hf
      · have hf := pf_f c3 hf
        obtain rfl := Option.some.inj hf
        exact (Or.inl rfl)
    · have hf := pf_f c1 hf
      by_cases c4 : (f_has x1 x4) = 0
      · have hf := pf_t c4 hf
        exact ih x1 x2 x3 (x4 + (1 : Int32)) hf
      · have hf := pf_f c4 hf
        obtain ⟨r5, er5, hf⟩ := pf_b hf
        by_cases c6 : r5 = 0
        · have hf := pf_t c6 hf
          exact ih x1 x2 x3 (x4 + (1 : Int32)) hf
        · have hf := pf_f c6 hf
          exact ih x1 x2 (x3 + (1 : Int32)) (x4 + (1 : Int32)) hf
def f_isTroddenBy_2 (n : Nat) (σ : MS) : Nat → Int32 → Int32 → Option Int32
  | 0, _, _ => none
  | m + 1, x1, x2 => if (ga σ 14 0) ≤ x2 then (some (1 : Int32)) else (f_isTroddenBy_17 n σ (f_isTroddenBy_2 n σ m) n x1 x2 (0 : Int32) (0 : Int32))
set_option maxHeartbeats 4000000 in
theorem w_isTroddenBy_2 {K : KT} {M : MT} {r : Int32} (n : Nat) (σ : MS) (C : Kok K cX10_isTroddenBy 5 RX10) (B : MB K M) (hr : (kMe K).sig.returnType = some .boolean) (dK : kR K = rmD 2) (hQ : KQm K M (some (.int r)) σ) : ∀ (m : Nat) (x1 : Int32) (x2 : Int32) (hf : f_isTroddenBy_2 n σ m x1 x2 = some r), XJ K 5 (Wm K M σ) 2 [(0, .ref (mO M)), (1, .int x1), (2, .int x2)] [] := by
  intro m
  induction m with
  | zero => intro x1 x2 hf; cases hf
  | succ m ih =>
    intro x1 x2 hf
    rw [f_isTroddenBy_2] at hf
    refine x_iload_n C dX10_isTroddenBy_2 2 rfl ?_
    refine x_aload_n C dX10_isTroddenBy_3 0 rfl ?_
    refine mg_14 C B dX10_isTroddenBy_4 ?_
    refine x_iconst (0 : Int32) C dX10_isTroddenBy_7 (by decide) ?_
    refine mlc_14 0 C B (by decide +kernel) dX10_isTroddenBy_8 ?_
    refine x_icmp_ge (tgt := 74) C dX10_isTroddenBy_9 (by decide) (fun c1 => ?_) (fun c1 => ?_)
    · have hf := pf_t c1 hf
      refine x_iconst (1 : Int32) C dX10_isTroddenBy_74 (by decide) ?_
      obtain rfl := Option.some.inj hf
      exact m_zret C hr (Or.inr rfl) hQ dX10_isTroddenBy_75
    · have hf := pf_f c1 hf
      refine x_iconst (0 : Int32) C dX10_isTroddenBy_12 (by decide) ?_
      refine x_istore_n (L' := [(0, .ref (mO M)), (1, .int x1), (2, .int x2), (3, .int (0 : Int32))]) C dX10_isTroddenBy_13 (Nat.le_of_ble_eq_true rfl) [1, 2, 3, 0] rfl ?_
      refine x_iconst (0 : Int32) C dX10_isTroddenBy_14 (by decide) ?_
      refine x_istore (L' := [(0, .ref (mO M)), (1, .int x1), (2, .int x2), (3, .int (0 : Int32)), (4, .int (0 : Int32))]) C dX10_isTroddenBy_15 (Nat.le_of_ble_eq_true rfl) [1, 2, 3, 4, 0] rfl ?_
      exact w_isTroddenBy_17 n σ _ C B hr dK hQ ih n x1 x2 (0 : Int32) (0 : Int32) hf
theorem bz_isTroddenBy_2 {r : Int32} {n : Nat} {σ : MS} : ∀ (m : Nat) (x1 : Int32) (x2 : Int32) (hf : f_isTroddenBy_2 n σ m x1 x2 = some r), r = 0 ∨ r = 1 := by
  intro m
  induction m with
  | zero => intro x1 x2 hf; cases hf
  | succ m ih =>
    intro x1 x2 hf
    rw [f_isTroddenBy_2] at hf
    by_cases c1 : (ga σ 14 0) ≤ x2
    · have hf := pf_t c1 hf
      obtain rfl := Option.some.inj hf
      exact (Or.inr rfl)
    · have hf := pf_f c1 hf
      exact bz_isTroddenBy_17 ih n x1 x2 (0 : Int32) (0 : Int32) hf
def f_isTroddenBy (n : Nat) (σ : MS) (x1 : Int32) : Option Int32 := f_isTroddenBy_2 n σ n x1 (0 : Int32)
set_option maxHeartbeats 4000000 in
theorem w_isTroddenBy_E {K : KT} {M : MT} {r : Int32} (n : Nat) (σ : MS) (C : Kok K cX10_isTroddenBy 5 RX10) (B : MB K M) (hr : (kMe K).sig.returnType = some .boolean) (dK : kR K = rmD 2) (hQ : KQm K M (some (.int r)) σ) (x1 : Int32) (hf : f_isTroddenBy n σ x1 = some r) : XJ K 5 (Wm K M σ) 0 [(0, .ref (mO M)), (1, .int x1)] [] := by
  unfold f_isTroddenBy at hf
  refine x_iconst (0 : Int32) C dX10_isTroddenBy_0 (by decide) ?_
  refine x_istore_n (L' := [(0, .ref (mO M)), (1, .int x1), (2, .int (0 : Int32))]) C dX10_isTroddenBy_1 (Nat.le_of_ble_eq_true rfl) [1, 2, 0] rfl ?_
  exact w_isTroddenBy_2 n σ C B hr dK hQ n x1 (0 : Int32) hf
theorem bz_isTroddenBy_E {r : Int32} {n : Nat} {σ : MS} {x1 : Int32} (hf : f_isTroddenBy n σ x1 = some r) : r = 0 ∨ r = 1 := by
  unfold f_isTroddenBy at hf
  exact bz_isTroddenBy_2 n x1 (0 : Int32) hf
theorem met_isTroddenBy {M : MT} {v : Int32} {n : Nat} {σ : MS} {x1 : Int32} {l : Launch} (hc : (mCl M)[mCi M]? = some (RX10, TX10, 61)) (hf : f_isTroddenBy n σ x1 = some v) : Met l yX10_isTroddenBy (ws_ yX10_isTroddenBy cX10_isTroddenBy 5 (some .boolean)) (rmD 2) (va_Pc [.ref (mO M), .int x1] (MU M σ)) (Qm M (some (.int v)) σ) 0 0 (mAd M) :=
  m_met [.ref (mO M), .int x1] (by decide) rfl (Nat.le_of_ble_eq_true rfl) hc (fun K hl hR hr C B hQ => w_isTroddenBy_E _ _ C B hr hR hQ _ hf)
theorem mc_isTroddenBy {K : KT} {M : MT} {cc : ByteArray} {nL pc dk : Nat} {L : List (Nat × Value)} {rest : List Value} {σ : MS} {v : Int32} {n : Nat} {x1 : Int32} (C : Kok K cc nL RX10) (B : MB K M) (dK : kR K = rmD dk) (hd : 2 + 1 ≤ dk) (hf : f_isTroddenBy n σ x1 = some v) (hW : (rest.map fun v => v.category).sum ≤ 8) (dd : decode cc pc = .ok (.invokevirtual 419, 3)) (kk2 : XJ K nL (Wm K M σ) (pc + 3) L ((.int v) :: rest)) : XJ K nL (Wm K M σ) pc L (.int x1 :: .ref (mO M) :: rest) :=
  m_callV (rest := rest) (v := (some (.int v))) [.int x1] 1 rfl C B dK hd (Nat.le_of_ble_eq_true rfl) (lw_V q2381 q2383 qs100 q133 q2384) (by decide +kernel) (met_isTroddenBy B.2 hf) rfl hW dd kk2
def f_grass_42 (n : Nat) : Nat → Int32 → Int32 → Int32 → MS → Option (Int32 × MS)
  | 0, _, _, _, _ => none
  | m + 1, x2, x3, x4, σ => if ((1 : Int32) <<< ((ga σ 14 4) &&& 31)) ≤ x4 then (if x2 ≤ 0 then (some (x2, σ)) else (ev (si σ 48 x3) fun s3 => some (x2, s3))) else ((f_isTroddenBy n σ x4).bind fun r4 => if r4 = 0 then (f_grass_42 n m x2 x3 (x4 + (1 : Int32)) σ) else (ev (x3 &&& x4) fun v6 => f_grass_42 n m (x2 + (1 : Int32)) v6 (x4 + (1 : Int32)) σ))
set_option maxHeartbeats 4000000 in
theorem w_grass_42 {K : KT} {M : MT} {r : Int32} {τ : MS} (n : Nat) (C : Kok K cX10_grass 5 RX10) (B : MB K M) (hr : (kMe K).sig.returnType = some .int) (dK : kR K = rmD 3) (hQ : KQm K M (some (.int r)) τ) : ∀ (m : Nat) (x2 : Int32) (x3 : Int32) (x4 : Int32) (σ : MS) (hf : f_grass_42 n m x2 x3 x4 σ = some (r, τ)), XJ K 5 (Wm K M σ) 42 [(0, .ref (mO M)), (2, .int x2), (3, .int x3), (4, .int x4)] [] := by
  intro m
  induction m with
  | zero => intro x2 x3 x4 σ hf; cases hf
  | succ m ih =>
    intro x2 x3 x4 σ hf
    rw [f_grass_42] at hf
    refine x_iload C dX10_grass_42 3 rfl ?_
    refine x_iconst (1 : Int32) C dX10_grass_44 (by decide) ?_
    refine x_aload_n C dX10_grass_45 0 rfl ?_
    refine mg_14 C B dX10_grass_46 ?_
    refine x_iconst (4 : Int32) C dX10_grass_49 (by decide) ?_
    refine mlc_14 4 C B (by decide +kernel) dX10_grass_50 ?_
    refine x_ishl C dX10_grass_51 ?_
    refine x_icmp_ge (tgt := 81) C dX10_grass_52 (by decide) (fun c1 => ?_) (fun c1 => ?_)
    · have hf := pf_t c1 hf
      refine x_iload_n C dX10_grass_81 1 rfl ?_
      refine x_if_le (tgt := 90) C dX10_grass_82 (by decide) (fun c2 => ?_) (fun c2 => ?_)
      · have hf := pf_t c2 hf
        refine x_iload_n C dX10_grass_90 1 rfl ?_
        obtain ⟨rfl, rfl⟩ := Prod.mk.inj (Option.some.inj hf)
        exact m_iret C hr hQ dX10_grass_91
      · have hf := pf_f c2 hf
        refine x_aload_n C dX10_grass_85 0 rfl ?_
        refine x_iload_n C dX10_grass_86 2 rfl ?_
        refine mp_48 C B dX10_grass_87 ?_
        obtain ⟨s3, es3, hf⟩ := pf_e hf
        refine m_ren es3 ?_
        refine x_iload_n C dX10_grass_90 1 rfl ?_
        obtain ⟨rfl, rfl⟩ := Prod.mk.inj (Option.some.inj hf)
        exact m_iret C hr hQ dX10_grass_91
    · have hf := pf_f c1 hf
      refine x_aload_n C dX10_grass_55 0 rfl ?_
      refine x_iload C dX10_grass_56 3 rfl ?_
      obtain ⟨r4, er4, hf⟩ := pf_b hf
      refine mc_isTroddenBy C B dK (Nat.le_of_ble_eq_true rfl) er4 (Nat.le_of_ble_eq_true rfl) dX10_grass_58 ?_
      refine x_if_ne (tgt := 67) C dX10_grass_61 (by decide) (fun c5 => ?_) (fun c5 => ?_)
      · have hf := pf_f c5 hf
        refine x_inc (c := (1 : Int32)) (L' := [(0, .ref (mO M)), (2, .int (x2 + (1 : Int32))), (3, .int x3), (4, .int x4)]) C dX10_grass_67 1 rfl (by decide) (Nat.le_of_ble_eq_true rfl) [1, 0, 2, 3] rfl ?_
        refine x_iload_n C dX10_grass_70 2 rfl ?_
        refine x_iload C dX10_grass_71 3 rfl ?_
        refine x_iand C dX10_grass_73 ?_
        obtain ⟨v6, ev6, hf⟩ := pf_e hf
        refine x_topir ev6 ?_
        refine x_istore_n (L' := [(0, .ref (mO M)), (2, .int (x2 + (1 : Int32))), (3, .int v6), (4, .int x4)]) C dX10_grass_74 (Nat.le_of_ble_eq_true rfl) [1, 2, 0, 3] rfl ?_
        refine x_inc (c := (1 : Int32)) (L' := [(0, .ref (mO M)), (2, .int (x2 + (1 : Int32))), (3, .int v6), (4, .int (x4 + (1 : Int32)))]) C dX10_grass_75 3 rfl (by decide) (Nat.le_of_ble_eq_true rfl) [1, 2, 3, 0] rfl ?_
        refine x_goto (tgt := 42) C dX10_grass_78 (by decide) ?_
        exact ih (x2 + (1 : Int32)) v6 (x4 + (1 : Int32)) _ hf
      · have hf := pf_t c5 hf
        refine x_goto (tgt := 75) C dX10_grass_64 (by decide) ?_
        refine x_inc (c := (1 : Int32)) (L' := [(0, .ref (mO M)), (2, .int x2), (3, .int x3), (4, .int (x4 + (1 : Int32)))]) C dX10_grass_75 3 rfl (by decide) (Nat.le_of_ble_eq_true rfl) [1, 2, 3, 0] rfl ?_
        refine x_goto (tgt := 42) C dX10_grass_78 (by decide) ?_
        exact ih x2 x3 (x4 + (1 : Int32)) _ hf
def f_grass (n : Nat) (σ : MS) : Option (Int32 × MS) := ev (si σ 0 (0 : Int32)) fun s1 => ev (f_take s1) fun r2 => if r2.1 = 0 then (some ((-1 : Int32), r2.2)) else (if r2.1 = (ga r2.2 14 0) then (ev (((1 : Int32) <<< ((ga r2.2 14 4) &&& 31)) - (1 : Int32)) fun v5 => f_grass_42 n n (0 : Int32) v5 (0 : Int32) r2.2) else (some ((-1 : Int32), r2.2)))
set_option maxHeartbeats 4000000 in
theorem w_grass_E {K : KT} {M : MT} {r : Int32} {τ : MS} (n : Nat) (C : Kok K cX10_grass 5 RX10) (B : MB K M) (hr : (kMe K).sig.returnType = some .int) (dK : kR K = rmD 3) (hQ : KQm K M (some (.int r)) τ) (σ : MS) (hf : f_grass n σ = some (r, τ)) : XJ K 5 (Wm K M σ) 0 [(0, .ref (mO M))] [] := by
  unfold f_grass at hf
  refine x_aload_n C dX10_grass_0 0 rfl ?_
  refine x_iconst (0 : Int32) C dX10_grass_1 (by decide) ?_
  refine mp_0 C B dX10_grass_2 ?_
  obtain ⟨s1, es1, hf⟩ := pf_e hf
  refine m_ren es1 ?_
  refine x_aload_n C dX10_grass_5 0 rfl ?_
  obtain ⟨r2, er2, hf⟩ := pf_e hf
  refine mc_take C B dK (Nat.le_of_ble_eq_true rfl) er2.symm (Nat.le_of_ble_eq_true rfl) dX10_grass_6 ?_
  refine x_istore_n (L' := [(0, .ref (mO M)), (1, .int r2.1)]) C dX10_grass_9 (Nat.le_of_ble_eq_true rfl) [1, 0] rfl ?_
  refine x_iload_n C dX10_grass_10 1 rfl ?_
  refine x_if_eq (tgt := 24) C dX10_grass_11 (by decide) (fun c3 => ?_) (fun c3 => ?_)
  · have hf := pf_t c3 hf
    refine x_iconst (-1 : Int32) C dX10_grass_24 (by decide) ?_
    obtain ⟨rfl, rfl⟩ := Prod.mk.inj (Option.some.inj hf)
    exact m_iret C hr hQ dX10_grass_25
  · have hf := pf_f c3 hf
    refine x_iload_n C dX10_grass_14 1 rfl ?_
    refine x_aload_n C dX10_grass_15 0 rfl ?_
    refine mg_14 C B dX10_grass_16 ?_
    refine x_iconst (0 : Int32) C dX10_grass_19 (by decide) ?_
    refine mlc_14 0 C B (by decide +kernel) dX10_grass_20 ?_
    refine x_icmp_eq (tgt := 26) C dX10_grass_21 (by decide) (fun c4 => ?_) (fun c4 => ?_)
    · have hf := pf_t c4 hf
      refine x_iconst (0 : Int32) C dX10_grass_26 (by decide) ?_
      refine x_istore_n (L' := [(0, .ref (mO M)), (2, .int (0 : Int32))]) C dX10_grass_27 (Nat.le_of_ble_eq_true rfl) [1, 0] rfl ?_
      refine x_iconst (1 : Int32) C dX10_grass_28 (by decide) ?_
      refine x_aload_n C dX10_grass_29 0 rfl ?_
      refine mg_14 C B dX10_grass_30 ?_
      refine x_iconst (4 : Int32) C dX10_grass_33 (by decide) ?_
      refine mlc_14 4 C B (by decide +kernel) dX10_grass_34 ?_
      refine x_ishl C dX10_grass_35 ?_
      refine x_iconst (1 : Int32) C dX10_grass_36 (by decide) ?_
      refine x_isub C dX10_grass_37 ?_
      obtain ⟨v5, ev5, hf⟩ := pf_e hf
      refine x_topir ev5 ?_
      refine x_istore_n (L' := [(0, .ref (mO M)), (2, .int (0 : Int32)), (3, .int v5)]) C dX10_grass_38 (Nat.le_of_ble_eq_true rfl) [1, 2, 0] rfl ?_
      refine x_iconst (0 : Int32) C dX10_grass_39 (by decide) ?_
      refine x_istore (L' := [(0, .ref (mO M)), (2, .int (0 : Int32)), (3, .int v5), (4, .int (0 : Int32))]) C dX10_grass_40 (Nat.le_of_ble_eq_true rfl) [1, 2, 3, 0] rfl ?_
      exact w_grass_42 n C B hr dK hQ n (0 : Int32) v5 (0 : Int32) _ hf
    · have hf := pf_f c4 hf
      refine x_iconst (-1 : Int32) C dX10_grass_24 (by decide) ?_
      obtain ⟨rfl, rfl⟩ := Prod.mk.inj (Option.some.inj hf)
      exact m_iret C hr hQ dX10_grass_25
theorem met_grass {M : MT} {v : (Int32 × MS)} {n : Nat} {σ : MS} {l : Launch} (hc : (mCl M)[mCi M]? = some (RX10, TX10, 61)) (hf : f_grass n σ = some v) : Met l yX10_grass (ws_ yX10_grass cX10_grass 5 (some .int)) (rmD 3) (va_Pc [.ref (mO M)] (MU M σ)) (Qm M (some (.int v.1)) v.2) 0 0 (mAd M) :=
  m_met [.ref (mO M)] (by decide) rfl (Nat.le_of_ble_eq_true rfl) hc (fun K hl hR hr C B hQ => w_grass_E _ C B hr hR hQ _ hf)
def f_trodden (σ : MS) : (Int32 × MS) := ev (si σ 0 (0 : Int32)) fun s1 => (gi s1 48, s1)
set_option maxHeartbeats 4000000 in
theorem w_trodden_E {K : KT} {M : MT} {r : Int32} {τ : MS} (C : Kok K cX10_trodden 1 RX10) (B : MB K M) (hr : (kMe K).sig.returnType = some .int) (dK : kR K = rmD 1) (hQ : KQm K M (some (.int r)) τ) (σ : MS) (hf : f_trodden σ = (r, τ)) : XJ K 1 (Wm K M σ) 0 [(0, .ref (mO M))] [] := by
  unfold f_trodden at hf
  refine x_aload_n C dX10_trodden_0 0 rfl ?_
  refine x_iconst (0 : Int32) C dX10_trodden_1 (by decide) ?_
  refine mp_0 C B dX10_trodden_2 ?_
  obtain ⟨s1, es1, hf⟩ := pf_e hf
  refine m_ren es1 ?_
  refine x_aload_n C dX10_trodden_5 0 rfl ?_
  refine mg_48 C B dX10_trodden_6 ?_
  obtain ⟨rfl, rfl⟩ := Prod.mk.inj hf
  exact m_iret C hr hQ dX10_trodden_9
theorem met_trodden {M : MT} {v : (Int32 × MS)} {σ : MS} {l : Launch} (hc : (mCl M)[mCi M]? = some (RX10, TX10, 61)) (hf : f_trodden σ = v) : Met l yX10_trodden (ws_ yX10_trodden cX10_trodden 1 (some .int)) (rmD 1) (va_Pc [.ref (mO M)] (MU M σ)) (Qm M (some (.int v.1)) v.2) 0 0 (mAd M) :=
  m_met [.ref (mO M)] (by decide) rfl (Nat.le_of_ble_eq_true rfl) hc (fun K hl hR hr C B hQ => w_trodden_E C B hr hR hQ _ hf)
def f_layAside_2 (n : Nat) : Nat → Int32 → MS → Option MS
  | 0, _, _ => none
  | m + 1, x1, σ => if (92 : Int32) ≤ x1 then (some σ) else (if inb ((198 : Int32) + x1) 532 = true then if inb x1 92 = true then ev (sa σ 18 (Int32.toNatClampNeg x1) (ga σ 14 (Int32.toNatClampNeg ((198 : Int32) + x1)))) fun s4 => f_layAside_2 n m (x1 + (1 : Int32)) s4 else none else none)
set_option maxHeartbeats 4000000 in
theorem w_layAside_2 {K : KT} {M : MT} {τ : MS} (n : Nat) (C : Kok K cX10_layAside 2 RX10) (B : MB K M) (hr : (kMe K).sig.returnType = none) (dK : kR K = rmD 1) (hQ : KQm K M none τ) : ∀ (m : Nat) (x1 : Int32) (σ : MS) (hf : f_layAside_2 n m x1 σ = some τ), XJ K 2 (Wm K M σ) 2 [(0, .ref (mO M)), (1, .int x1)] [] := by
  intro m
  induction m with
  | zero => intro x1 σ hf; cases hf
  | succ m ih =>
    intro x1 σ hf
    rw [f_layAside_2] at hf
    refine x_iload_n C dX10_layAside_2 1 rfl ?_
    refine x_bipush (92 : Int32) C dX10_layAside_3 (by decide) ?_
    refine x_icmp_ge (tgt := 30) C dX10_layAside_5 (by decide) (fun c1 => ?_) (fun c1 => ?_)
    · have hf := pf_t c1 hf
      obtain rfl := Option.some.inj hf
      exact m_vret C hr hQ dX10_layAside_30
    · have hf := pf_f c1 hf
      refine x_aload_n C dX10_layAside_8 0 rfl ?_
      refine mg_18 C B dX10_layAside_9 ?_
      refine x_iload_n C dX10_layAside_12 1 rfl ?_
      refine x_aload_n C dX10_layAside_13 0 rfl ?_
      refine mg_14 C B dX10_layAside_14 ?_
      refine x_sipush (198 : Int32) C dX10_layAside_17 (by decide) ?_
      refine x_iload_n C dX10_layAside_20 1 rfl ?_
      refine x_iadd C dX10_layAside_21 ?_
      obtain ⟨h2, hf⟩ := pf_in hf
      refine ml_14 C B h2 dX10_layAside_22 ?_
      obtain ⟨h3, hf⟩ := pf_in hf
      refine ms_18 C B h3 dX10_layAside_23 ?_
      obtain ⟨s4, es4, hf⟩ := pf_e hf
      refine m_ren es4 ?_
      refine x_inc (c := (1 : Int32)) (L' := [(0, .ref (mO M)), (1, .int (x1 + (1 : Int32)))]) C dX10_layAside_24 1 rfl (by decide) (Nat.le_of_ble_eq_true rfl) [1, 0] rfl ?_
      refine x_goto (tgt := 2) C dX10_layAside_27 (by decide) ?_
      exact ih (x1 + (1 : Int32)) _ hf
def f_layAside (n : Nat) (σ : MS) : Option MS := f_layAside_2 n n (0 : Int32) σ
set_option maxHeartbeats 4000000 in
theorem w_layAside_E {K : KT} {M : MT} {τ : MS} (n : Nat) (C : Kok K cX10_layAside 2 RX10) (B : MB K M) (hr : (kMe K).sig.returnType = none) (dK : kR K = rmD 1) (hQ : KQm K M none τ) (σ : MS) (hf : f_layAside n σ = some τ) : XJ K 2 (Wm K M σ) 0 [(0, .ref (mO M))] [] := by
  unfold f_layAside at hf
  refine x_iconst (0 : Int32) C dX10_layAside_0 (by decide) ?_
  refine x_istore_n (L' := [(0, .ref (mO M)), (1, .int (0 : Int32))]) C dX10_layAside_1 (Nat.le_of_ble_eq_true rfl) [1, 0] rfl ?_
  exact w_layAside_2 n C B hr dK hQ n (0 : Int32) _ hf
theorem met_layAside {M : MT} {v : MS} {n : Nat} {σ : MS} {l : Launch} (hc : (mCl M)[mCi M]? = some (RX10, TX10, 61)) (hf : f_layAside n σ = some v) : Met l yX10_layAside (ws_ yX10_layAside cX10_layAside 2 none) (rmD 1) (va_Pc [.ref (mO M)] (MU M σ)) (Qm M none v) 0 0 (mAd M) :=
  m_met [.ref (mO M)] (by decide) rfl (Nat.le_of_ble_eq_true rfl) hc (fun K hl hR hr C B hQ => w_layAside_E _ C B hr hR hQ _ hf)
theorem mc_layAside {K : KT} {M : MT} {cc : ByteArray} {nL pc dk : Nat} {L : List (Nat × Value)} {rest : List Value} {σ : MS} {v : MS} {n : Nat} (C : Kok K cc nL RX10) (B : MB K M) (dK : kR K = rmD dk) (hd : 1 + 1 ≤ dk) (hf : f_layAside n σ = some v) (hW : (rest.map fun v => v.category).sum ≤ 8) (dd : decode cc pc = .ok (.invokevirtual 422, 3)) (kk2 : XJ K nL (Wm K M v) (pc + 3) L (rest)) : XJ K nL (Wm K M σ) pc L (.ref (mO M) :: rest) :=
  m_callV (rest := rest) (v := none) [] 0 rfl C B dK hd (Nat.le_of_ble_eq_true rfl) (lw_V q2393 q2395 qs101 q133 q2396) (by decide +kernel) (met_layAside B.2 hf) rfl hW dd kk2
def f_takeBack_2 (n : Nat) : Nat → Int32 → MS → Option MS
  | 0, _, _ => none
  | m + 1, x1, σ => if (92 : Int32) ≤ x1 then (some σ) else (if inb x1 92 = true then if inb ((198 : Int32) + x1) 532 = true then ev (sa σ 14 (Int32.toNatClampNeg ((198 : Int32) + x1)) (ga σ 18 (Int32.toNatClampNeg x1))) fun s4 => f_takeBack_2 n m (x1 + (1 : Int32)) s4 else none else none)
set_option maxHeartbeats 4000000 in
theorem w_takeBack_2 {K : KT} {M : MT} {τ : MS} (n : Nat) (C : Kok K cX10_takeBack 2 RX10) (B : MB K M) (hr : (kMe K).sig.returnType = none) (dK : kR K = rmD 1) (hQ : KQm K M none τ) : ∀ (m : Nat) (x1 : Int32) (σ : MS) (hf : f_takeBack_2 n m x1 σ = some τ), XJ K 2 (Wm K M σ) 2 [(0, .ref (mO M)), (1, .int x1)] [] := by
  intro m
  induction m with
  | zero => intro x1 σ hf; cases hf
  | succ m ih =>
    intro x1 σ hf
    rw [f_takeBack_2] at hf
    refine x_iload_n C dX10_takeBack_2 1 rfl ?_
    refine x_bipush (92 : Int32) C dX10_takeBack_3 (by decide) ?_
    refine x_icmp_ge (tgt := 30) C dX10_takeBack_5 (by decide) (fun c1 => ?_) (fun c1 => ?_)
    · have hf := pf_t c1 hf
      obtain rfl := Option.some.inj hf
      exact m_vret C hr hQ dX10_takeBack_30
    · have hf := pf_f c1 hf
      refine x_aload_n C dX10_takeBack_8 0 rfl ?_
      refine mg_14 C B dX10_takeBack_9 ?_
      refine x_sipush (198 : Int32) C dX10_takeBack_12 (by decide) ?_
      refine x_iload_n C dX10_takeBack_15 1 rfl ?_
      refine x_iadd C dX10_takeBack_16 ?_
      refine x_aload_n C dX10_takeBack_17 0 rfl ?_
      refine mg_18 C B dX10_takeBack_18 ?_
      refine x_iload_n C dX10_takeBack_21 1 rfl ?_
      obtain ⟨h2, hf⟩ := pf_in hf
      refine ml_18 C B h2 dX10_takeBack_22 ?_
      obtain ⟨h3, hf⟩ := pf_in hf
      refine ms_14 C B h3 dX10_takeBack_23 ?_
      obtain ⟨s4, es4, hf⟩ := pf_e hf
      refine m_ren es4 ?_
      refine x_inc (c := (1 : Int32)) (L' := [(0, .ref (mO M)), (1, .int (x1 + (1 : Int32)))]) C dX10_takeBack_24 1 rfl (by decide) (Nat.le_of_ble_eq_true rfl) [1, 0] rfl ?_
      refine x_goto (tgt := 2) C dX10_takeBack_27 (by decide) ?_
      exact ih (x1 + (1 : Int32)) _ hf
def f_takeBack (n : Nat) (σ : MS) : Option MS := f_takeBack_2 n n (0 : Int32) σ
set_option maxHeartbeats 4000000 in
theorem w_takeBack_E {K : KT} {M : MT} {τ : MS} (n : Nat) (C : Kok K cX10_takeBack 2 RX10) (B : MB K M) (hr : (kMe K).sig.returnType = none) (dK : kR K = rmD 1) (hQ : KQm K M none τ) (σ : MS) (hf : f_takeBack n σ = some τ) : XJ K 2 (Wm K M σ) 0 [(0, .ref (mO M))] [] := by
  unfold f_takeBack at hf
  refine x_iconst (0 : Int32) C dX10_takeBack_0 (by decide) ?_
  refine x_istore_n (L' := [(0, .ref (mO M)), (1, .int (0 : Int32))]) C dX10_takeBack_1 (Nat.le_of_ble_eq_true rfl) [1, 0] rfl ?_
  exact w_takeBack_2 n C B hr dK hQ n (0 : Int32) _ hf
theorem met_takeBack {M : MT} {v : MS} {n : Nat} {σ : MS} {l : Launch} (hc : (mCl M)[mCi M]? = some (RX10, TX10, 61)) (hf : f_takeBack n σ = some v) : Met l yX10_takeBack (ws_ yX10_takeBack cX10_takeBack 2 none) (rmD 1) (va_Pc [.ref (mO M)] (MU M σ)) (Qm M none v) 0 0 (mAd M) :=
  m_met [.ref (mO M)] (by decide) rfl (Nat.le_of_ble_eq_true rfl) hc (fun K hl hR hr C B hQ => w_takeBack_E _ C B hr hR hQ _ hf)
theorem mc_takeBack {K : KT} {M : MT} {cc : ByteArray} {nL pc dk : Nat} {L : List (Nat × Value)} {rest : List Value} {σ : MS} {v : MS} {n : Nat} (C : Kok K cc nL RX10) (B : MB K M) (dK : kR K = rmD dk) (hd : 1 + 1 ≤ dk) (hf : f_takeBack n σ = some v) (hW : (rest.map fun v => v.category).sum ≤ 8) (dd : decode cc pc = .ok (.invokevirtual 425, 3)) (kk2 : XJ K nL (Wm K M v) (pc + 3) L (rest)) : XJ K nL (Wm K M σ) pc L (.ref (mO M) :: rest) :=
  m_callV (rest := rest) (v := none) [] 0 rfl C B dK hd (Nat.le_of_ble_eq_true rfl) (lw_V q2397 q2399 qs102 q133 q2400) (by decide +kernel) (met_takeBack B.2 hf) rfl hW dd kk2
def f_law_64 (n : Nat) : Nat → Int32 → Int32 → Int32 → Int32 → Int32 → Int32 → MS → Option (Int32 × MS)
  | 0, _, _, _, _, _, _, _ => none
  | m + 1, x1, x2, x3, x4, x5, x6, σ => if (9 : Int32) < x6 then (ev (sa σ 14 5 x4) fun s2 => some (x5, s2)) else (if x5 = (-1 : Int32) then (ev (sa σ 14 5 x6) fun s5 => ev (si s5 27 x3) fun s6 => (f_passDays n x2 s6).bind fun r7 => if (x1 &&& (ga r7.2 14 201)) = 0 then ((f_takeBack n r7.2).bind fun r10 => f_law_64 n m x1 x2 x3 x4 x6 (x6 + (1 : Int32)) r10) else ((f_takeBack n r7.2).bind fun r9 => f_law_64 n m x1 x2 x3 x4 x5 (x6 + (1 : Int32)) r9)) else (ev (sa σ 14 5 x4) fun s4 => some (x5, s4)))
set_option maxHeartbeats 4000000 in
theorem w_law_64 {K : KT} {M : MT} {r : Int32} {τ : MS} (n : Nat) (C : Kok K cX10_law 7 RX10) (B : MB K M) (hr : (kMe K).sig.returnType = some .int) (dK : kR K = rmD 6) (hQ : KQm K M (some (.int r)) τ) : ∀ (m : Nat) (x1 : Int32) (x2 : Int32) (x3 : Int32) (x4 : Int32) (x5 : Int32) (x6 : Int32) (σ : MS) (hf : f_law_64 n m x1 x2 x3 x4 x5 x6 σ = some (r, τ)), XJ K 7 (Wm K M σ) 64 [(0, .ref (mO M)), (1, .int x1), (2, .int x2), (3, .int x3), (4, .int x4), (5, .int x5), (6, .int x6)] [] := by
  intro m
  induction m with
  | zero => intro x1 x2 x3 x4 x5 x6 σ hf; cases hf
  | succ m ih =>
    intro x1 x2 x3 x4 x5 x6 σ hf
    rw [f_law_64] at hf
    refine x_iload C dX10_law_64 6 rfl ?_
    refine x_bipush (9 : Int32) C dX10_law_66 (by decide) ?_
    refine x_icmp_gt (tgt := 123) C dX10_law_68 (by decide) (fun c1 => ?_) (fun c1 => ?_)
    · have hf := pf_t c1 hf
      refine x_aload_n C dX10_law_123 0 rfl ?_
      refine mg_14 C B dX10_law_124 ?_
      refine x_iconst (5 : Int32) C dX10_law_127 (by decide) ?_
      refine x_iload C dX10_law_128 4 rfl ?_
      refine msc_14 5 C B (by decide +kernel) dX10_law_130 ?_
      obtain ⟨s2, es2, hf⟩ := pf_e hf
      refine m_ren es2 ?_
      refine x_iload C dX10_law_131 5 rfl ?_
      obtain ⟨rfl, rfl⟩ := Prod.mk.inj (Option.some.inj hf)
      exact m_iret C hr hQ dX10_law_133
    · have hf := pf_f c1 hf
      refine x_iload C dX10_law_71 5 rfl ?_
      refine x_iconst (-1 : Int32) C dX10_law_73 (by decide) ?_
      refine x_icmp_ne (tgt := 123) C dX10_law_74 (by decide) (fun c3 => ?_) (fun c3 => ?_)
      · have hf := pf_f c3 hf
        refine x_aload_n C dX10_law_123 0 rfl ?_
        refine mg_14 C B dX10_law_124 ?_
        refine x_iconst (5 : Int32) C dX10_law_127 (by decide) ?_
        refine x_iload C dX10_law_128 4 rfl ?_
        refine msc_14 5 C B (by decide +kernel) dX10_law_130 ?_
        obtain ⟨s4, es4, hf⟩ := pf_e hf
        refine m_ren es4 ?_
        refine x_iload C dX10_law_131 5 rfl ?_
        obtain ⟨rfl, rfl⟩ := Prod.mk.inj (Option.some.inj hf)
        exact m_iret C hr hQ dX10_law_133
      · have hf := pf_t c3 hf
        refine x_aload_n C dX10_law_77 0 rfl ?_
        refine mg_14 C B dX10_law_78 ?_
        refine x_iconst (5 : Int32) C dX10_law_81 (by decide) ?_
        refine x_iload C dX10_law_82 6 rfl ?_
        refine msc_14 5 C B (by decide +kernel) dX10_law_84 ?_
        obtain ⟨s5, es5, hf⟩ := pf_e hf
        refine m_ren es5 ?_
        refine x_aload_n C dX10_law_85 0 rfl ?_
        refine x_iload_n C dX10_law_86 3 rfl ?_
        refine mp_27 C B dX10_law_87 ?_
        obtain ⟨s6, es6, hf⟩ := pf_e hf
        refine m_ren es6 ?_
        refine x_aload_n C dX10_law_90 0 rfl ?_
        refine x_iload_n C dX10_law_91 2 rfl ?_
        obtain ⟨r7, er7, hf⟩ := pf_b hf
        refine mc_passDays C B dK (Nat.le_of_ble_eq_true rfl) er7 (Nat.le_of_ble_eq_true rfl) dX10_law_92 ?_
        refine x_pop C dX10_law_95 rfl ?_
        refine x_iload_n C dX10_law_96 1 rfl ?_
        refine x_aload_n C dX10_law_97 0 rfl ?_
        refine mg_14 C B dX10_law_98 ?_
        refine x_sipush (201 : Int32) C dX10_law_101 (by decide) ?_
        refine mlc_14 201 C B (by decide +kernel) dX10_law_104 ?_
        refine x_iand C dX10_law_105 ?_
        refine x_if_ne (tgt := 113) C dX10_law_106 (by decide) (fun c8 => ?_) (fun c8 => ?_)
        · have hf := pf_f c8 hf
          refine x_aload_n C dX10_law_113 0 rfl ?_
          obtain ⟨r9, er9, hf⟩ := pf_b hf
          refine mc_takeBack C B dK (Nat.le_of_ble_eq_true rfl) er9 (Nat.le_of_ble_eq_true rfl) dX10_law_114 ?_
          refine x_inc (c := (1 : Int32)) (L' := [(0, .ref (mO M)), (1, .int x1), (2, .int x2), (3, .int x3), (4, .int x4), (5, .int x5), (6, .int (x6 + (1 : Int32)))]) C dX10_law_117 6 rfl (by decide) (Nat.le_of_ble_eq_true rfl) [1, 2, 3, 4, 5, 6, 0] rfl ?_
          refine x_goto (tgt := 64) C dX10_law_120 (by decide) ?_
          exact ih x1 x2 x3 x4 x5 (x6 + (1 : Int32)) _ hf
        · have hf := pf_t c8 hf
          refine x_iload C dX10_law_109 6 rfl ?_
          refine x_istore (L' := [(0, .ref (mO M)), (1, .int x1), (2, .int x2), (3, .int x3), (4, .int x4), (5, .int x6), (6, .int x6)]) C dX10_law_111 (Nat.le_of_ble_eq_true rfl) [1, 2, 3, 4, 5, 0, 6] rfl ?_
          refine x_aload_n C dX10_law_113 0 rfl ?_
          obtain ⟨r10, er10, hf⟩ := pf_b hf
          refine mc_takeBack C B dK (Nat.le_of_ble_eq_true rfl) er10 (Nat.le_of_ble_eq_true rfl) dX10_law_114 ?_
          refine x_inc (c := (1 : Int32)) (L' := [(0, .ref (mO M)), (1, .int x1), (2, .int x2), (3, .int x3), (4, .int x4), (5, .int x6), (6, .int (x6 + (1 : Int32)))]) C dX10_law_117 6 rfl (by decide) (Nat.le_of_ble_eq_true rfl) [1, 2, 3, 4, 5, 6, 0] rfl ?_
          refine x_goto (tgt := 64) C dX10_law_120 (by decide) ?_
          exact ih x1 x2 x3 x4 x6 (x6 + (1 : Int32)) _ hf
def f_law (n : Nat) (x1 : Int32) (x2 : Int32) (x3 : Int32) (σ : MS) : Option (Int32 × MS) := ev (si σ 0 (0 : Int32)) fun s1 => if x1 < 0 then (some ((-1 : Int32), s1)) else (if ((1 : Int32) <<< ((ga s1 14 3) &&& 31)) ≤ x1 then (some ((-1 : Int32), s1)) else (if (x1 &&& (ga s1 14 201)) = 0 then (if (f_isIn x2 (1 : Int32) (60 : Int32)) = 0 then (some ((-1 : Int32), s1)) else (ev (ga s1 14 5) fun v6 => (f_layAside n s1).bind fun r7 => f_law_64 n n x1 x2 x3 v6 (-1 : Int32) (1 : Int32) r7)) else (some ((-1 : Int32), s1))))
set_option maxHeartbeats 4000000 in
theorem w_law_E {K : KT} {M : MT} {r : Int32} {τ : MS} (n : Nat) (C : Kok K cX10_law 7 RX10) (B : MB K M) (hr : (kMe K).sig.returnType = some .int) (dK : kR K = rmD 6) (hQ : KQm K M (some (.int r)) τ) (x1 : Int32) (x2 : Int32) (x3 : Int32) (σ : MS) (hf : f_law n x1 x2 x3 σ = some (r, τ)) : XJ K 7 (Wm K M σ) 0 [(0, .ref (mO M)), (1, .int x1), (2, .int x2), (3, .int x3)] [] := by
  unfold f_law at hf
  refine x_aload_n C dX10_law_0 0 rfl ?_
  refine x_iconst (0 : Int32) C dX10_law_1 (by decide) ?_
  refine mp_0 C B dX10_law_2 ?_
  obtain ⟨s1, es1, hf⟩ := pf_e hf
  refine m_ren es1 ?_
  refine x_iload_n C dX10_law_5 1 rfl ?_
  refine x_if_lt (tgt := 44) C dX10_law_6 (by decide) (fun c2 => ?_) (fun c2 => ?_)
  · have hf := pf_t c2 hf
    refine x_iconst (-1 : Int32) C dX10_law_44 (by decide) ?_
    obtain ⟨rfl, rfl⟩ := Prod.mk.inj (Option.some.inj hf)
    exact m_iret C hr hQ dX10_law_45
  · have hf := pf_f c2 hf
    refine x_iload_n C dX10_law_9 1 rfl ?_
    refine x_iconst (1 : Int32) C dX10_law_10 (by decide) ?_
    refine x_aload_n C dX10_law_11 0 rfl ?_
    refine mg_14 C B dX10_law_12 ?_
    refine x_iconst (3 : Int32) C dX10_law_15 (by decide) ?_
    refine mlc_14 3 C B (by decide +kernel) dX10_law_16 ?_
    refine x_ishl C dX10_law_17 ?_
    refine x_icmp_ge (tgt := 44) C dX10_law_18 (by decide) (fun c3 => ?_) (fun c3 => ?_)
    · have hf := pf_t c3 hf
      refine x_iconst (-1 : Int32) C dX10_law_44 (by decide) ?_
      obtain ⟨rfl, rfl⟩ := Prod.mk.inj (Option.some.inj hf)
      exact m_iret C hr hQ dX10_law_45
    · have hf := pf_f c3 hf
      refine x_iload_n C dX10_law_21 1 rfl ?_
      refine x_aload_n C dX10_law_22 0 rfl ?_
      refine mg_14 C B dX10_law_23 ?_
      refine x_sipush (201 : Int32) C dX10_law_26 (by decide) ?_
      refine mlc_14 201 C B (by decide +kernel) dX10_law_29 ?_
      refine x_iand C dX10_law_30 ?_
      refine x_if_ne (tgt := 44) C dX10_law_31 (by decide) (fun c4 => ?_) (fun c4 => ?_)
      · have hf := pf_f c4 hf
        refine x_iconst (-1 : Int32) C dX10_law_44 (by decide) ?_
        obtain ⟨rfl, rfl⟩ := Prod.mk.inj (Option.some.inj hf)
        exact m_iret C hr hQ dX10_law_45
      · have hf := pf_t c4 hf
        refine x_iload_n C dX10_law_34 2 rfl ?_
        refine x_iconst (1 : Int32) C dX10_law_35 (by decide) ?_
        refine x_bipush (60 : Int32) C dX10_law_36 (by decide) ?_
        refine mc_isIn C B dK (Nat.le_of_ble_eq_true rfl) rfl (Nat.le_of_ble_eq_true rfl) dX10_law_38 ?_
        refine x_if_ne (tgt := 46) C dX10_law_41 (by decide) (fun c5 => ?_) (fun c5 => ?_)
        · have hf := pf_f c5 hf
          refine x_aload_n C dX10_law_46 0 rfl ?_
          refine mg_14 C B dX10_law_47 ?_
          refine x_iconst (5 : Int32) C dX10_law_50 (by decide) ?_
          refine mlc_14 5 C B (by decide +kernel) dX10_law_51 ?_
          obtain ⟨v6, ev6, hf⟩ := pf_e hf
          refine x_topir ev6 ?_
          refine x_istore (L' := [(0, .ref (mO M)), (1, .int x1), (2, .int x2), (3, .int x3), (4, .int v6)]) C dX10_law_52 (Nat.le_of_ble_eq_true rfl) [1, 2, 3, 4, 0] rfl ?_
          refine x_iconst (-1 : Int32) C dX10_law_54 (by decide) ?_
          refine x_istore (L' := [(0, .ref (mO M)), (1, .int x1), (2, .int x2), (3, .int x3), (4, .int v6), (5, .int (-1 : Int32))]) C dX10_law_55 (Nat.le_of_ble_eq_true rfl) [1, 2, 3, 4, 5, 0] rfl ?_
          refine x_aload_n C dX10_law_57 0 rfl ?_
          obtain ⟨r7, er7, hf⟩ := pf_b hf
          refine mc_layAside C B dK (Nat.le_of_ble_eq_true rfl) er7 (Nat.le_of_ble_eq_true rfl) dX10_law_58 ?_
          refine x_iconst (1 : Int32) C dX10_law_61 (by decide) ?_
          refine x_istore (L' := [(0, .ref (mO M)), (1, .int x1), (2, .int x2), (3, .int x3), (4, .int v6), (5, .int (-1 : Int32)), (6, .int (1 : Int32))]) C dX10_law_62 (Nat.le_of_ble_eq_true rfl) [1, 2, 3, 4, 5, 6, 0] rfl ?_
          exact w_law_64 n C B hr dK hQ n x1 x2 x3 v6 (-1 : Int32) (1 : Int32) _ hf
        · have hf := pf_t c5 hf
          refine x_iconst (-1 : Int32) C dX10_law_44 (by decide) ?_
          obtain ⟨rfl, rfl⟩ := Prod.mk.inj (Option.some.inj hf)
          exact m_iret C hr hQ dX10_law_45
theorem met_law {M : MT} {v : (Int32 × MS)} {n : Nat} {σ : MS} {x1 : Int32} {x2 : Int32} {x3 : Int32} {l : Launch} (hc : (mCl M)[mCi M]? = some (RX10, TX10, 61)) (hf : f_law n x1 x2 x3 σ = some v) : Met l yX10_law (ws_ yX10_law cX10_law 7 (some .int)) (rmD 6) (va_Pc [.ref (mO M), .int x1, .int x2, .int x3] (MU M σ)) (Qm M (some (.int v.1)) v.2) 0 0 (mAd M) :=
  m_met [.ref (mO M), .int x1, .int x2, .int x3] (by decide) rfl (Nat.le_of_ble_eq_true rfl) hc (fun K hl hR hr C B hQ => w_law_E _ C B hr hR hQ _ _ _ _ hf)
def f_bare_31 (n : Nat) : Nat → Int32 → Int32 → Int32 → MS → Option (Int32 × MS)
  | 0, _, _, _, _ => none
  | m + 1, x1, x3, x4, σ => if x1 ≤ x4 then ((f_takeBack n σ).bind fun r2 => some (x3, r2)) else (if x3 = (-1 : Int32) then (if (400 : Int32) ≤ (ga σ 14 198) then ((f_takeBack n σ).bind fun r6 => some (x3, r6)) else (ev (ga σ 14 201) fun v7 => (f_oneDay n σ).bind fun r8 => if (ga r8 14 201) = v7 then (f_bare_31 n m x1 x3 (x4 + (1 : Int32)) r8) else (ev ((ga r8 14 198) - (1 : Int32)) fun v10 => f_bare_31 n m x1 v10 (x4 + (1 : Int32)) r8))) else ((f_takeBack n σ).bind fun r4 => some (x3, r4)))
set_option maxHeartbeats 4000000 in
theorem w_bare_31 {K : KT} {M : MT} {r : Int32} {τ : MS} (n : Nat) (C : Kok K cX10_bare 6 RX10) (B : MB K M) (hr : (kMe K).sig.returnType = some .int) (dK : kR K = rmD 5) (hQ : KQm K M (some (.int r)) τ) : ∀ (m : Nat) (x1 : Int32) (x3 : Int32) (x4 : Int32) (σ : MS) (hf : f_bare_31 n m x1 x3 x4 σ = some (r, τ)), XJ K 6 (Wm K M σ) 31 [(0, .ref (mO M)), (1, .int x1), (3, .int x3), (4, .int x4)] [] := by
  intro m
  induction m with
  | zero => intro x1 x3 x4 σ hf; cases hf
  | succ m ih =>
    intro x1 x3 x4 σ hf
    rw [f_bare_31] at hf
    refine x_iload C dX10_bare_31 3 rfl ?_
    refine x_iload_n C dX10_bare_33 1 rfl ?_
    refine x_icmp_ge (tgt := 100) C dX10_bare_34 (by decide) (fun c1 => ?_) (fun c1 => ?_)
    · have hf := pf_t c1 hf
      refine x_aload_n C dX10_bare_100 0 rfl ?_
      obtain ⟨r2, er2, hf⟩ := pf_b hf
      refine mc_takeBack C B dK (Nat.le_of_ble_eq_true rfl) er2 (Nat.le_of_ble_eq_true rfl) dX10_bare_101 ?_
      refine x_iload_n C dX10_bare_104 2 rfl ?_
      obtain ⟨rfl, rfl⟩ := Prod.mk.inj (Option.some.inj hf)
      exact m_iret C hr hQ dX10_bare_105
    · have hf := pf_f c1 hf
      refine x_iload_n C dX10_bare_37 2 rfl ?_
      refine x_iconst (-1 : Int32) C dX10_bare_38 (by decide) ?_
      refine x_icmp_ne (tgt := 100) C dX10_bare_39 (by decide) (fun c3 => ?_) (fun c3 => ?_)
      · have hf := pf_f c3 hf
        refine x_aload_n C dX10_bare_100 0 rfl ?_
        obtain ⟨r4, er4, hf⟩ := pf_b hf
        refine mc_takeBack C B dK (Nat.le_of_ble_eq_true rfl) er4 (Nat.le_of_ble_eq_true rfl) dX10_bare_101 ?_
        refine x_iload_n C dX10_bare_104 2 rfl ?_
        obtain ⟨rfl, rfl⟩ := Prod.mk.inj (Option.some.inj hf)
        exact m_iret C hr hQ dX10_bare_105
      · have hf := pf_t c3 hf
        refine x_aload_n C dX10_bare_42 0 rfl ?_
        refine mg_14 C B dX10_bare_43 ?_
        refine x_sipush (198 : Int32) C dX10_bare_46 (by decide) ?_
        refine mlc_14 198 C B (by decide +kernel) dX10_bare_49 ?_
        refine x_sipush (400 : Int32) C dX10_bare_50 (by decide) ?_
        refine x_icmp_ge (tgt := 100) C dX10_bare_53 (by decide) (fun c5 => ?_) (fun c5 => ?_)
        · have hf := pf_t c5 hf
          refine x_aload_n C dX10_bare_100 0 rfl ?_
          obtain ⟨r6, er6, hf⟩ := pf_b hf
          refine mc_takeBack C B dK (Nat.le_of_ble_eq_true rfl) er6 (Nat.le_of_ble_eq_true rfl) dX10_bare_101 ?_
          refine x_iload_n C dX10_bare_104 2 rfl ?_
          obtain ⟨rfl, rfl⟩ := Prod.mk.inj (Option.some.inj hf)
          exact m_iret C hr hQ dX10_bare_105
        · have hf := pf_f c5 hf
          refine x_aload_n C dX10_bare_56 0 rfl ?_
          refine mg_14 C B dX10_bare_57 ?_
          refine x_sipush (201 : Int32) C dX10_bare_60 (by decide) ?_
          refine mlc_14 201 C B (by decide +kernel) dX10_bare_63 ?_
          obtain ⟨v7, ev7, hf⟩ := pf_e hf
          refine x_topir ev7 ?_
          refine x_istore (L' := [(0, .ref (mO M)), (1, .int x1), (3, .int x3), (4, .int x4), (5, .int v7)]) C dX10_bare_64 (Nat.le_of_ble_eq_true rfl) [1, 2, 3, 4, 0] rfl ?_
          refine x_aload_n C dX10_bare_66 0 rfl ?_
          obtain ⟨r8, er8, hf⟩ := pf_b hf
          refine mc_oneDay C B dK (Nat.le_of_ble_eq_true rfl) er8 (Nat.le_of_ble_eq_true rfl) dX10_bare_67 ?_
          refine x_aload_n C dX10_bare_70 0 rfl ?_
          refine mg_14 C B dX10_bare_71 ?_
          refine x_sipush (201 : Int32) C dX10_bare_74 (by decide) ?_
          refine mlc_14 201 C B (by decide +kernel) dX10_bare_77 ?_
          refine x_iload C dX10_bare_78 4 rfl ?_
          refine x_icmp_eq (tgt := 94) C dX10_bare_80 (by decide) (fun c9 => ?_) (fun c9 => ?_)
          · have hf := pf_t c9 hf
            refine x_inc (c := (1 : Int32)) (L' := [(0, .ref (mO M)), (1, .int x1), (3, .int x3), (4, .int (x4 + (1 : Int32)))]) C dX10_bare_94 3 rfl (by decide) (Nat.le_of_ble_eq_true rfl) [1, 2, 3, 0] rfl ?_
            refine x_goto (tgt := 31) C dX10_bare_97 (by decide) ?_
            exact ih x1 x3 (x4 + (1 : Int32)) _ hf
          · have hf := pf_f c9 hf
            refine x_aload_n C dX10_bare_83 0 rfl ?_
            refine mg_14 C B dX10_bare_84 ?_
            refine x_sipush (198 : Int32) C dX10_bare_87 (by decide) ?_
            refine mlc_14 198 C B (by decide +kernel) dX10_bare_90 ?_
            refine x_iconst (1 : Int32) C dX10_bare_91 (by decide) ?_
            refine x_isub C dX10_bare_92 ?_
            obtain ⟨v10, ev10, hf⟩ := pf_e hf
            refine x_topir ev10 ?_
            refine x_istore_n (L' := [(0, .ref (mO M)), (1, .int x1), (3, .int v10), (4, .int x4)]) C dX10_bare_93 (Nat.le_of_ble_eq_true rfl) [1, 2, 0, 3] rfl ?_
            refine x_inc (c := (1 : Int32)) (L' := [(0, .ref (mO M)), (1, .int x1), (3, .int v10), (4, .int (x4 + (1 : Int32)))]) C dX10_bare_94 3 rfl (by decide) (Nat.le_of_ble_eq_true rfl) [1, 2, 3, 0] rfl ?_
            refine x_goto (tgt := 31) C dX10_bare_97 (by decide) ?_
            exact ih x1 v10 (x4 + (1 : Int32)) _ hf
def f_bare (n : Nat) (x1 : Int32) (x2 : Int32) (σ : MS) : Option (Int32 × MS) := ev (si σ 0 (0 : Int32)) fun s1 => if (f_isIn x1 (1 : Int32) (60 : Int32)) = 0 then (some ((-1 : Int32), s1)) else ((f_layAside n s1).bind fun r3 => ev (si r3 27 x2) fun s4 => f_bare_31 n n x1 (-1 : Int32) (0 : Int32) s4)
set_option maxHeartbeats 4000000 in
theorem w_bare_E {K : KT} {M : MT} {r : Int32} {τ : MS} (n : Nat) (C : Kok K cX10_bare 6 RX10) (B : MB K M) (hr : (kMe K).sig.returnType = some .int) (dK : kR K = rmD 5) (hQ : KQm K M (some (.int r)) τ) (x1 : Int32) (x2 : Int32) (σ : MS) (hf : f_bare n x1 x2 σ = some (r, τ)) : XJ K 6 (Wm K M σ) 0 [(0, .ref (mO M)), (1, .int x1), (2, .int x2)] [] := by
  unfold f_bare at hf
  refine x_aload_n C dX10_bare_0 0 rfl ?_
  refine x_iconst (0 : Int32) C dX10_bare_1 (by decide) ?_
  refine mp_0 C B dX10_bare_2 ?_
  obtain ⟨s1, es1, hf⟩ := pf_e hf
  refine m_ren es1 ?_
  refine x_iload_n C dX10_bare_5 1 rfl ?_
  refine x_iconst (1 : Int32) C dX10_bare_6 (by decide) ?_
  refine x_bipush (60 : Int32) C dX10_bare_7 (by decide) ?_
  refine mc_isIn C B dK (Nat.le_of_ble_eq_true rfl) rfl (Nat.le_of_ble_eq_true rfl) dX10_bare_9 ?_
  refine x_if_ne (tgt := 17) C dX10_bare_12 (by decide) (fun c2 => ?_) (fun c2 => ?_)
  · have hf := pf_f c2 hf
    refine x_aload_n C dX10_bare_17 0 rfl ?_
    obtain ⟨r3, er3, hf⟩ := pf_b hf
    refine mc_layAside C B dK (Nat.le_of_ble_eq_true rfl) er3 (Nat.le_of_ble_eq_true rfl) dX10_bare_18 ?_
    refine x_aload_n C dX10_bare_21 0 rfl ?_
    refine x_iload_n C dX10_bare_22 2 rfl ?_
    refine mp_27 C B dX10_bare_23 ?_
    obtain ⟨s4, es4, hf⟩ := pf_e hf
    refine m_ren es4 ?_
    refine x_iconst (-1 : Int32) C dX10_bare_26 (by decide) ?_
    refine x_istore_n (L' := [(0, .ref (mO M)), (1, .int x1), (3, .int (-1 : Int32))]) C dX10_bare_27 (Nat.le_of_ble_eq_true rfl) [1, 2, 0] rfl ?_
    refine x_iconst (0 : Int32) C dX10_bare_28 (by decide) ?_
    refine x_istore (L' := [(0, .ref (mO M)), (1, .int x1), (3, .int (-1 : Int32)), (4, .int (0 : Int32))]) C dX10_bare_29 (Nat.le_of_ble_eq_true rfl) [1, 2, 3, 0] rfl ?_
    exact w_bare_31 n C B hr dK hQ n x1 (-1 : Int32) (0 : Int32) _ hf
  · have hf := pf_t c2 hf
    refine x_iconst (-1 : Int32) C dX10_bare_15 (by decide) ?_
    obtain ⟨rfl, rfl⟩ := Prod.mk.inj (Option.some.inj hf)
    exact m_iret C hr hQ dX10_bare_16
theorem met_bare {M : MT} {v : (Int32 × MS)} {n : Nat} {σ : MS} {x1 : Int32} {x2 : Int32} {l : Launch} (hc : (mCl M)[mCi M]? = some (RX10, TX10, 61)) (hf : f_bare n x1 x2 σ = some v) : Met l yX10_bare (ws_ yX10_bare cX10_bare 6 (some .int)) (rmD 5) (va_Pc [.ref (mO M), .int x1, .int x2] (MU M σ)) (Qm M (some (.int v.1)) v.2) 0 0 (mAd M) :=
  m_met [.ref (mO M), .int x1, .int x2] (by decide) rfl (Nat.le_of_ble_eq_true rfl) hc (fun K hl hR hr C B hQ => w_bare_E _ C B hr hR hQ _ _ _ hf)
def f_odds_35 (n : Nat) : Nat → Int32 → Int32 → Int32 → Int32 → Int32 → MS → Option (Int32 × MS)
  | 0, _, _, _, _, _, _ => none
  | m + 1, x1, x2, x3, x4, x5, σ => if x2 ≤ x5 then (some (x4, σ)) else (ev (si σ 27 (x3 + x5)) fun s2 => (f_passDays n (20 : Int32) s2).bind fun r3 => if (f_isEvicted r3.2 x1) = 0 then ((f_takeBack n r3.2).bind fun r6 => f_odds_35 n m x1 x2 x3 (x4 + (1 : Int32)) (x5 + (1 : Int32)) r6) else ((f_takeBack n r3.2).bind fun r5 => f_odds_35 n m x1 x2 x3 x4 (x5 + (1 : Int32)) r5))
set_option maxHeartbeats 4000000 in
theorem w_odds_35 {K : KT} {M : MT} {r : Int32} {τ : MS} (n : Nat) (C : Kok K cX10_odds 6 RX10) (B : MB K M) (hr : (kMe K).sig.returnType = some .int) (dK : kR K = rmD 6) (hQ : KQm K M (some (.int r)) τ) : ∀ (m : Nat) (x1 : Int32) (x2 : Int32) (x3 : Int32) (x4 : Int32) (x5 : Int32) (σ : MS) (hf : f_odds_35 n m x1 x2 x3 x4 x5 σ = some (r, τ)), XJ K 6 (Wm K M σ) 35 [(0, .ref (mO M)), (1, .int x1), (2, .int x2), (3, .int x3), (4, .int x4), (5, .int x5)] [] := by
  intro m
  induction m with
  | zero => intro x1 x2 x3 x4 x5 σ hf; cases hf
  | succ m ih =>
    intro x1 x2 x3 x4 x5 σ hf
    rw [f_odds_35] at hf
    refine x_iload C dX10_odds_35 5 rfl ?_
    refine x_iload_n C dX10_odds_37 2 rfl ?_
    refine x_icmp_ge (tgt := 77) C dX10_odds_38 (by decide) (fun c1 => ?_) (fun c1 => ?_)
    · have hf := pf_t c1 hf
      refine x_iload C dX10_odds_77 4 rfl ?_
      obtain ⟨rfl, rfl⟩ := Prod.mk.inj (Option.some.inj hf)
      exact m_iret C hr hQ dX10_odds_79
    · have hf := pf_f c1 hf
      refine x_aload_n C dX10_odds_41 0 rfl ?_
      refine x_iload_n C dX10_odds_42 3 rfl ?_
      refine x_iload C dX10_odds_43 5 rfl ?_
      refine x_iadd C dX10_odds_45 ?_
      refine mp_27 C B dX10_odds_46 ?_
      obtain ⟨s2, es2, hf⟩ := pf_e hf
      refine m_ren es2 ?_
      refine x_aload_n C dX10_odds_49 0 rfl ?_
      refine x_bipush (20 : Int32) C dX10_odds_50 (by decide) ?_
      obtain ⟨r3, er3, hf⟩ := pf_b hf
      refine mc_passDays C B dK (Nat.le_of_ble_eq_true rfl) er3 (Nat.le_of_ble_eq_true rfl) dX10_odds_52 ?_
      refine x_pop C dX10_odds_55 rfl ?_
      refine x_aload_n C dX10_odds_56 0 rfl ?_
      refine x_iload_n C dX10_odds_57 1 rfl ?_
      refine mc_isEvicted C B dK (Nat.le_of_ble_eq_true rfl) rfl (Nat.le_of_ble_eq_true rfl) dX10_odds_58 ?_
      refine x_if_ne (tgt := 67) C dX10_odds_61 (by decide) (fun c4 => ?_) (fun c4 => ?_)
      · have hf := pf_f c4 hf
        refine x_aload_n C dX10_odds_67 0 rfl ?_
        obtain ⟨r5, er5, hf⟩ := pf_b hf
        refine mc_takeBack C B dK (Nat.le_of_ble_eq_true rfl) er5 (Nat.le_of_ble_eq_true rfl) dX10_odds_68 ?_
        refine x_inc (c := (1 : Int32)) (L' := [(0, .ref (mO M)), (1, .int x1), (2, .int x2), (3, .int x3), (4, .int x4), (5, .int (x5 + (1 : Int32)))]) C dX10_odds_71 5 rfl (by decide) (Nat.le_of_ble_eq_true rfl) [1, 2, 3, 4, 5, 0] rfl ?_
        refine x_goto (tgt := 35) C dX10_odds_74 (by decide) ?_
        exact ih x1 x2 x3 x4 (x5 + (1 : Int32)) _ hf
      · have hf := pf_t c4 hf
        refine x_inc (c := (1 : Int32)) (L' := [(0, .ref (mO M)), (1, .int x1), (2, .int x2), (3, .int x3), (4, .int (x4 + (1 : Int32))), (5, .int x5)]) C dX10_odds_64 4 rfl (by decide) (Nat.le_of_ble_eq_true rfl) [1, 2, 3, 4, 0, 5] rfl ?_
        refine x_aload_n C dX10_odds_67 0 rfl ?_
        obtain ⟨r6, er6, hf⟩ := pf_b hf
        refine mc_takeBack C B dK (Nat.le_of_ble_eq_true rfl) er6 (Nat.le_of_ble_eq_true rfl) dX10_odds_68 ?_
        refine x_inc (c := (1 : Int32)) (L' := [(0, .ref (mO M)), (1, .int x1), (2, .int x2), (3, .int x3), (4, .int (x4 + (1 : Int32))), (5, .int (x5 + (1 : Int32)))]) C dX10_odds_71 5 rfl (by decide) (Nat.le_of_ble_eq_true rfl) [1, 2, 3, 4, 5, 0] rfl ?_
        refine x_goto (tgt := 35) C dX10_odds_74 (by decide) ?_
        exact ih x1 x2 x3 (x4 + (1 : Int32)) (x5 + (1 : Int32)) _ hf
def f_odds (n : Nat) (x1 : Int32) (x2 : Int32) (x3 : Int32) (σ : MS) : Option (Int32 × MS) := ev (si σ 0 (0 : Int32)) fun s1 => if (f_isStatue s1 x1) = 0 then (some ((-1 : Int32), s1)) else (if (f_isIn x2 (1 : Int32) (30 : Int32)) = 0 then (some ((-1 : Int32), s1)) else ((f_layAside n s1).bind fun r4 => f_odds_35 n n x1 x2 x3 (0 : Int32) (0 : Int32) r4))
set_option maxHeartbeats 4000000 in
theorem w_odds_E {K : KT} {M : MT} {r : Int32} {τ : MS} (n : Nat) (C : Kok K cX10_odds 6 RX10) (B : MB K M) (hr : (kMe K).sig.returnType = some .int) (dK : kR K = rmD 6) (hQ : KQm K M (some (.int r)) τ) (x1 : Int32) (x2 : Int32) (x3 : Int32) (σ : MS) (hf : f_odds n x1 x2 x3 σ = some (r, τ)) : XJ K 6 (Wm K M σ) 0 [(0, .ref (mO M)), (1, .int x1), (2, .int x2), (3, .int x3)] [] := by
  unfold f_odds at hf
  refine x_aload_n C dX10_odds_0 0 rfl ?_
  refine x_iconst (0 : Int32) C dX10_odds_1 (by decide) ?_
  refine mp_0 C B dX10_odds_2 ?_
  obtain ⟨s1, es1, hf⟩ := pf_e hf
  refine m_ren es1 ?_
  refine x_aload_n C dX10_odds_5 0 rfl ?_
  refine x_iload_n C dX10_odds_6 1 rfl ?_
  refine mc_isStatue C B dK (Nat.le_of_ble_eq_true rfl) rfl (Nat.le_of_ble_eq_true rfl) dX10_odds_7 ?_
  refine x_if_eq (tgt := 23) C dX10_odds_10 (by decide) (fun c2 => ?_) (fun c2 => ?_)
  · have hf := pf_t c2 hf
    refine x_iconst (-1 : Int32) C dX10_odds_23 (by decide) ?_
    obtain ⟨rfl, rfl⟩ := Prod.mk.inj (Option.some.inj hf)
    exact m_iret C hr hQ dX10_odds_24
  · have hf := pf_f c2 hf
    refine x_iload_n C dX10_odds_13 2 rfl ?_
    refine x_iconst (1 : Int32) C dX10_odds_14 (by decide) ?_
    refine x_bipush (30 : Int32) C dX10_odds_15 (by decide) ?_
    refine mc_isIn C B dK (Nat.le_of_ble_eq_true rfl) rfl (Nat.le_of_ble_eq_true rfl) dX10_odds_17 ?_
    refine x_if_ne (tgt := 25) C dX10_odds_20 (by decide) (fun c3 => ?_) (fun c3 => ?_)
    · have hf := pf_f c3 hf
      refine x_aload_n C dX10_odds_25 0 rfl ?_
      obtain ⟨r4, er4, hf⟩ := pf_b hf
      refine mc_layAside C B dK (Nat.le_of_ble_eq_true rfl) er4 (Nat.le_of_ble_eq_true rfl) dX10_odds_26 ?_
      refine x_iconst (0 : Int32) C dX10_odds_29 (by decide) ?_
      refine x_istore (L' := [(0, .ref (mO M)), (1, .int x1), (2, .int x2), (3, .int x3), (4, .int (0 : Int32))]) C dX10_odds_30 (Nat.le_of_ble_eq_true rfl) [1, 2, 3, 4, 0] rfl ?_
      refine x_iconst (0 : Int32) C dX10_odds_32 (by decide) ?_
      refine x_istore (L' := [(0, .ref (mO M)), (1, .int x1), (2, .int x2), (3, .int x3), (4, .int (0 : Int32)), (5, .int (0 : Int32))]) C dX10_odds_33 (Nat.le_of_ble_eq_true rfl) [1, 2, 3, 4, 5, 0] rfl ?_
      exact w_odds_35 n C B hr dK hQ n x1 x2 x3 (0 : Int32) (0 : Int32) _ hf
    · have hf := pf_t c3 hf
      refine x_iconst (-1 : Int32) C dX10_odds_23 (by decide) ?_
      obtain ⟨rfl, rfl⟩ := Prod.mk.inj (Option.some.inj hf)
      exact m_iret C hr hQ dX10_odds_24
theorem met_odds {M : MT} {v : (Int32 × MS)} {n : Nat} {σ : MS} {x1 : Int32} {x2 : Int32} {x3 : Int32} {l : Launch} (hc : (mCl M)[mCi M]? = some (RX10, TX10, 61)) (hf : f_odds n x1 x2 x3 σ = some v) : Met l yX10_odds (ws_ yX10_odds cX10_odds 6 (some .int)) (rmD 6) (va_Pc [.ref (mO M), .int x1, .int x2, .int x3] (MU M σ)) (Qm M (some (.int v.1)) v.2) 0 0 (mAd M) :=
  m_met [.ref (mO M), .int x1, .int x2, .int x3] (by decide) rfl (Nat.le_of_ble_eq_true rfl) hc (fun K hl hR hr C B hQ => w_odds_E _ C B hr hR hQ _ _ _ _ hf)
def f_write (x1 : Int32) (σ : MS) : Option MS := if inb (gi σ 51) 64 = true then ev (sa σ 50 (Int32.toNatClampNeg (gi σ 51)) x1) fun s2 => ev (si s2 51 ((gi s2 51) + (1 : Int32))) fun s3 => some s3 else none
set_option maxHeartbeats 4000000 in
theorem w_write_E {K : KT} {M : MT} {τ : MS} (C : Kok K cX10_write 2 RX10) (B : MB K M) (hr : (kMe K).sig.returnType = none) (dK : kR K = rmD 1) (hQ : KQm K M none τ) (x1 : Int32) (σ : MS) (hf : f_write x1 σ = some τ) : XJ K 2 (Wm K M σ) 0 [(0, .ref (mO M)), (1, .int x1)] [] := by
  unfold f_write at hf
  refine x_aload_n C dX10_write_0 0 rfl ?_
  refine mg_50 C B dX10_write_1 ?_
  refine x_aload_n C dX10_write_4 0 rfl ?_
  refine mg_51 C B dX10_write_5 ?_
  refine x_iload_n C dX10_write_8 1 rfl ?_
  obtain ⟨h1, hf⟩ := pf_in hf
  refine ms_50 C B h1 dX10_write_9 ?_
  obtain ⟨s2, es2, hf⟩ := pf_e hf
  refine m_ren es2 ?_
  refine x_aload_n C dX10_write_10 0 rfl ?_
  refine x_dup C dX10_write_11 rfl ?_
  refine mg_51 C B dX10_write_12 ?_
  refine x_iconst (1 : Int32) C dX10_write_15 (by decide) ?_
  refine x_iadd C dX10_write_16 ?_
  refine mp_51 C B dX10_write_17 ?_
  obtain ⟨s3, es3, hf⟩ := pf_e hf
  refine m_ren es3 ?_
  obtain rfl := Option.some.inj hf
  exact m_vret C hr hQ dX10_write_20
theorem met_write {M : MT} {v : MS} {σ : MS} {x1 : Int32} {l : Launch} (hc : (mCl M)[mCi M]? = some (RX10, TX10, 61)) (hf : f_write x1 σ = some v) : Met l yX10_write (ws_ yX10_write cX10_write 2 none) (rmD 1) (va_Pc [.ref (mO M), .int x1] (MU M σ)) (Qm M none v) 0 0 (mAd M) :=
  m_met [.ref (mO M), .int x1] (by decide) rfl (Nat.le_of_ble_eq_true rfl) hc (fun K hl hR hr C B hQ => w_write_E C B hr hR hQ _ _ hf)
theorem mc_write {K : KT} {M : MT} {cc : ByteArray} {nL pc dk : Nat} {L : List (Nat × Value)} {rest : List Value} {σ : MS} {v : MS} {x1 : Int32} (C : Kok K cc nL RX10) (B : MB K M) (dK : kR K = rmD dk) (hd : 1 + 1 ≤ dk) (hf : f_write x1 σ = some v) (hW : (rest.map fun v => v.category).sum ≤ 8) (dd : decode cc pc = .ok (.invokevirtual 435, 3)) (kk2 : XJ K nL (Wm K M v) (pc + 3) L (rest)) : XJ K nL (Wm K M σ) pc L (.int x1 :: .ref (mO M) :: rest) :=
  m_callV (rest := rest) (v := none) [.int x1] 1 rfl C B dK hd (Nat.le_of_ble_eq_true rfl) (lw_V q2417 q2419 qs104 q133 q2420) (by decide +kernel) (met_write B.2 hf) rfl hW dd kk2
theorem mcr_writeNumber {K : KT} {M : MT} {cc : ByteArray} {nL pc dk : Nat} {L : List (Nat × Value)} {rest : List Value} {σ : MS} {v : MS} {rs : Int32 → MS → Option MS} {rf : Nat} {x1 : Int32} (C : Kok K cc nL RX10) (B : MB K M) (hrs : ∀ (a0 : Int32) (σ : MS) (v : MS), rs a0 σ = some v → Met (kL K) yX10_writeNumber (ws_ yX10_writeNumber cX10_writeNumber 2 none) (rmD (2 + 1 * rf)) (va_Pc [.ref (mO M), .int a0] (MU M σ)) (Qm M none v) 0 0 (mAd M)) (dK : kR K = rmD dk) (hd : (2 + 1 * rf) + 1 ≤ dk) (hf : rs x1 σ = some v) (hW : (rest.map fun v => v.category).sum ≤ 8) (dd : decode cc pc = .ok (.invokevirtual 438, 3)) (kk2 : XJ K nL (Wm K M v) (pc + 3) L (rest)) : XJ K nL (Wm K M σ) pc L (.int x1 :: .ref (mO M) :: rest) :=
  m_callV (rest := rest) (v := none) [.int x1] 1 rfl C B dK hd (Nat.le_of_ble_eq_true rfl) (lw_V q2421 q2423 qs105 q133 q2424) (by decide +kernel) (hrs _ _ _ hf) rfl hW dd kk2
def g_writeNumber (rs : Int32 → MS → Option MS) (x1 : Int32) (σ : MS) : Option MS := if x1 ≤ (9 : Int32) then ((f_write ((48 : Int32) + (x1 - x1 / (10 : Int32) * (10 : Int32))) σ).bind fun r2 => some r2) else ((rs (x1 / (10 : Int32)) σ).bind fun r3 => (f_write ((48 : Int32) + (x1 - x1 / (10 : Int32) * (10 : Int32))) r3).bind fun r4 => some r4)
set_option maxHeartbeats 4000000 in
theorem w_writeNumber_E {K : KT} {M : MT} {τ : MS} (rs : Int32 → MS → Option MS) {rf : Nat} (hrs : ∀ (a0 : Int32) (σ : MS) (v : MS), rs a0 σ = some v → Met (kL K) yX10_writeNumber (ws_ yX10_writeNumber cX10_writeNumber 2 none) (rmD (2 + 1 * rf)) (va_Pc [.ref (mO M), .int a0] (MU M σ)) (Qm M none v) 0 0 (mAd M)) (C : Kok K cX10_writeNumber 2 RX10) (B : MB K M) (hr : (kMe K).sig.returnType = none) (dK : kR K = rmD (2 + 1 * (rf + 1))) (hQ : KQm K M none τ) (x1 : Int32) (σ : MS) (hf : g_writeNumber rs x1 σ = some τ) : XJ K 2 (Wm K M σ) 0 [(0, .ref (mO M)), (1, .int x1)] [] := by
  unfold g_writeNumber at hf
  refine x_iload_n C dX10_writeNumber_0 1 rfl ?_
  refine x_bipush (9 : Int32) C dX10_writeNumber_1 (by decide) ?_
  refine x_icmp_le (tgt := 14) C dX10_writeNumber_3 (by decide) (fun c1 => ?_) (fun c1 => ?_)
  · have hf := pf_t c1 hf
    refine x_aload_n C dX10_writeNumber_14 0 rfl ?_
    refine x_bipush (48 : Int32) C dX10_writeNumber_15 (by decide) ?_
    refine x_iload_n C dX10_writeNumber_17 1 rfl ?_
    refine x_bipush (10 : Int32) C dX10_writeNumber_18 (by decide) ?_
    refine x_irem C (by decide) dX10_writeNumber_20 ?_
    refine x_iadd C dX10_writeNumber_21 ?_
    obtain ⟨r2, er2, hf⟩ := pf_b hf
    refine mc_write C B dK (by omega) er2 (Nat.le_of_ble_eq_true rfl) dX10_writeNumber_22 ?_
    obtain rfl := Option.some.inj hf
    exact m_vret C hr hQ dX10_writeNumber_25
  · have hf := pf_f c1 hf
    refine x_aload_n C dX10_writeNumber_6 0 rfl ?_
    refine x_iload_n C dX10_writeNumber_7 1 rfl ?_
    refine x_bipush (10 : Int32) C dX10_writeNumber_8 (by decide) ?_
    refine x_idiv C (by decide) dX10_writeNumber_10 ?_
    obtain ⟨r3, er3, hf⟩ := pf_b hf
    refine mcr_writeNumber C B hrs dK (by omega) er3 (Nat.le_of_ble_eq_true rfl) dX10_writeNumber_11 ?_
    refine x_aload_n C dX10_writeNumber_14 0 rfl ?_
    refine x_bipush (48 : Int32) C dX10_writeNumber_15 (by decide) ?_
    refine x_iload_n C dX10_writeNumber_17 1 rfl ?_
    refine x_bipush (10 : Int32) C dX10_writeNumber_18 (by decide) ?_
    refine x_irem C (by decide) dX10_writeNumber_20 ?_
    refine x_iadd C dX10_writeNumber_21 ?_
    obtain ⟨r4, er4, hf⟩ := pf_b hf
    refine mc_write C B dK (by omega) er4 (Nat.le_of_ble_eq_true rfl) dX10_writeNumber_22 ?_
    obtain rfl := Option.some.inj hf
    exact m_vret C hr hQ dX10_writeNumber_25
theorem metg_writeNumber {M : MT} {v : MS} {rs : Int32 → MS → Option MS} {σ : MS} {x1 : Int32} {rf : Nat} {l : Launch} (hrs : ∀ (a0 : Int32) (σ : MS) (v : MS), rs a0 σ = some v → Met l yX10_writeNumber (ws_ yX10_writeNumber cX10_writeNumber 2 none) (rmD (2 + 1 * rf)) (va_Pc [.ref (mO M), .int a0] (MU M σ)) (Qm M none v) 0 0 (mAd M)) (hc : (mCl M)[mCi M]? = some (RX10, TX10, 61)) (hf : g_writeNumber rs x1 σ = some v) : Met l yX10_writeNumber (ws_ yX10_writeNumber cX10_writeNumber 2 none) (rmD (2 + 1 * (rf + 1))) (va_Pc [.ref (mO M), .int x1] (MU M σ)) (Qm M none v) 0 0 (mAd M) :=
  m_met [.ref (mO M), .int x1] (by decide) rfl (Nat.le_of_ble_eq_true rfl) hc (fun K hl hR hr C B hQ => w_writeNumber_E _ (hl ▸ hrs) C B hr hR hQ _ _ hf)
def f_writeNumber : Nat → Int32 → MS → Option MS
  | 0 => fun _ _ => none
  | rf + 1 => fun x1 σ => g_writeNumber (f_writeNumber rf) x1 σ
theorem met_writeNumber {M : MT} {l : Launch} (hc : (mCl M)[mCi M]? = some (RX10, TX10, 61)) : ∀ (rf : Nat) (x1 : Int32) (σ : MS) (v : MS), f_writeNumber rf x1 σ = some v → Met l yX10_writeNumber (ws_ yX10_writeNumber cX10_writeNumber 2 none) (rmD (2 + 1 * rf)) (va_Pc [.ref (mO M), .int x1] (MU M σ)) (Qm M none v) 0 0 (mAd M) := by
  intro rf
  induction rf with
  | zero => intro x1 σ v hf; cases hf
  | succ rf ih =>
    intro x1 σ v hf
    exact metg_writeNumber (rf := rf) (fun a0 σ v h => ih a0 σ v h) hc hf
theorem mco_writeNumber {K : KT} {M : MT} {cc : ByteArray} {nL pc dk : Nat} {L : List (Nat × Value)} {rest : List Value} {σ : MS} {v : MS} {x1 : Int32} (C : Kok K cc nL RX10) (B : MB K M) (dK : kR K = rmD dk) (hd : 66 + 1 ≤ dk) (hf : f_writeNumber 64 x1 σ = some v) (hW : (rest.map fun v => v.category).sum ≤ 8) (dd : decode cc pc = .ok (.invokevirtual 438, 3)) (kk2 : XJ K nL (Wm K M v) (pc + 3) L (rest)) : XJ K nL (Wm K M σ) pc L (.int x1 :: .ref (mO M) :: rest) :=
  m_callV (rest := rest) (v := none) [.int x1] 1 rfl C B dK hd (Nat.le_of_ble_eq_true rfl) (lw_V q2421 q2423 qs105 q133 q2424) (by decide +kernel) (met_writeNumber B.2 64 _ _ _ hf) rfl hW dd kk2
theorem mcr_writeWord {K : KT} {M : MT} {cc : ByteArray} {nL pc dk : Nat} {L : List (Nat × Value)} {rest : List Value} {σ : MS} {v : MS} {rs : Int64 → MS → Option MS} {rf : Nat} {x1 : Int64} (C : Kok K cc nL RX10) (B : MB K M) (hrs : ∀ (a0 : Int64) (σ : MS) (v : MS), rs a0 σ = some v → Met (kL K) yX10_writeWord (ws_ yX10_writeWord cX10_writeWord 3 none) (rmD (2 + 1 * rf)) (va_Pc [.ref (mO M), .long a0] (MU M σ)) (Qm M none v) 0 0 (mAd M)) (dK : kR K = rmD dk) (hd : (2 + 1 * rf) + 1 ≤ dk) (hf : rs x1 σ = some v) (hW : (rest.map fun v => v.category).sum ≤ 8) (dd : decode cc pc = .ok (.invokevirtual 431, 3)) (kk2 : XJ K nL (Wm K M v) (pc + 3) L (rest)) : XJ K nL (Wm K M σ) pc L (.long x1 :: .ref (mO M) :: rest) :=
  m_callV (rest := rest) (v := none) [.long x1] 1 rfl C B dK hd (Nat.le_of_ble_eq_true rfl) (lw_V q2413 q2415 qs103 q133 q2416) (by decide +kernel) (hrs _ _ _ hf) rfl hW dd kk2
def g_writeWord (rs : Int64 → MS → Option MS) (x1 : Int64) (σ : MS) : Option MS := if (lg_cmp x1 (27 : Int64)) < 0 then ((f_write ((96 : Int32) + (Int64.toInt32 (x1 - x1 / (27 : Int64) * (27 : Int64)))) σ).bind fun r2 => some r2) else ((rs (x1 / (27 : Int64)) σ).bind fun r3 => (f_write ((96 : Int32) + (Int64.toInt32 (x1 - x1 / (27 : Int64) * (27 : Int64)))) r3).bind fun r4 => some r4)
set_option maxHeartbeats 4000000 in
theorem w_writeWord_E {K : KT} {M : MT} {τ : MS} (rs : Int64 → MS → Option MS) {rf : Nat} (hrs : ∀ (a0 : Int64) (σ : MS) (v : MS), rs a0 σ = some v → Met (kL K) yX10_writeWord (ws_ yX10_writeWord cX10_writeWord 3 none) (rmD (2 + 1 * rf)) (va_Pc [.ref (mO M), .long a0] (MU M σ)) (Qm M none v) 0 0 (mAd M)) (C : Kok K cX10_writeWord 3 RX10) (B : MB K M) (hr : (kMe K).sig.returnType = none) (dK : kR K = rmD (2 + 1 * (rf + 1))) (hQ : KQm K M none τ) (x1 : Int64) (σ : MS) (hf : g_writeWord rs x1 σ = some τ) : XJ K 3 (Wm K M σ) 0 [(0, .ref (mO M)), (1, .long x1)] [] := by
  unfold g_writeWord at hf
  refine x_lload_n C dX10_writeWord_0 1 rfl ?_
  refine x_ldc2 C q2007 dX10_writeWord_1 ?_
  refine x_lcmp C dX10_writeWord_4 ?_
  refine x_if_lt (tgt := 17) C dX10_writeWord_5 (by decide) (fun c1 => ?_) (fun c1 => ?_)
  · have hf := pf_t c1 hf
    refine x_aload_n C dX10_writeWord_17 0 rfl ?_
    refine x_bipush (96 : Int32) C dX10_writeWord_18 (by decide) ?_
    refine x_lload_n C dX10_writeWord_20 1 rfl ?_
    refine x_ldc2 C q2007 dX10_writeWord_21 ?_
    refine x_lrem C (by decide) dX10_writeWord_24 ?_
    refine x_l2i C dX10_writeWord_25 ?_
    refine x_iadd C dX10_writeWord_26 ?_
    obtain ⟨r2, er2, hf⟩ := pf_b hf
    refine mc_write C B dK (by omega) er2 (Nat.le_of_ble_eq_true rfl) dX10_writeWord_27 ?_
    obtain rfl := Option.some.inj hf
    exact m_vret C hr hQ dX10_writeWord_30
  · have hf := pf_f c1 hf
    refine x_aload_n C dX10_writeWord_8 0 rfl ?_
    refine x_lload_n C dX10_writeWord_9 1 rfl ?_
    refine x_ldc2 C q2007 dX10_writeWord_10 ?_
    refine x_ldiv C (by decide) dX10_writeWord_13 ?_
    obtain ⟨r3, er3, hf⟩ := pf_b hf
    refine mcr_writeWord C B hrs dK (by omega) er3 (Nat.le_of_ble_eq_true rfl) dX10_writeWord_14 ?_
    refine x_aload_n C dX10_writeWord_17 0 rfl ?_
    refine x_bipush (96 : Int32) C dX10_writeWord_18 (by decide) ?_
    refine x_lload_n C dX10_writeWord_20 1 rfl ?_
    refine x_ldc2 C q2007 dX10_writeWord_21 ?_
    refine x_lrem C (by decide) dX10_writeWord_24 ?_
    refine x_l2i C dX10_writeWord_25 ?_
    refine x_iadd C dX10_writeWord_26 ?_
    obtain ⟨r4, er4, hf⟩ := pf_b hf
    refine mc_write C B dK (by omega) er4 (Nat.le_of_ble_eq_true rfl) dX10_writeWord_27 ?_
    obtain rfl := Option.some.inj hf
    exact m_vret C hr hQ dX10_writeWord_30
theorem metg_writeWord {M : MT} {v : MS} {rs : Int64 → MS → Option MS} {σ : MS} {x1 : Int64} {rf : Nat} {l : Launch} (hrs : ∀ (a0 : Int64) (σ : MS) (v : MS), rs a0 σ = some v → Met l yX10_writeWord (ws_ yX10_writeWord cX10_writeWord 3 none) (rmD (2 + 1 * rf)) (va_Pc [.ref (mO M), .long a0] (MU M σ)) (Qm M none v) 0 0 (mAd M)) (hc : (mCl M)[mCi M]? = some (RX10, TX10, 61)) (hf : g_writeWord rs x1 σ = some v) : Met l yX10_writeWord (ws_ yX10_writeWord cX10_writeWord 3 none) (rmD (2 + 1 * (rf + 1))) (va_Pc [.ref (mO M), .long x1] (MU M σ)) (Qm M none v) 0 0 (mAd M) :=
  m_met [.ref (mO M), .long x1] (by decide) rfl (Nat.le_of_ble_eq_true rfl) hc (fun K hl hR hr C B hQ => w_writeWord_E _ (hl ▸ hrs) C B hr hR hQ _ _ hf)
def f_writeWord : Nat → Int64 → MS → Option MS
  | 0 => fun _ _ => none
  | rf + 1 => fun x1 σ => g_writeWord (f_writeWord rf) x1 σ
theorem met_writeWord {M : MT} {l : Launch} (hc : (mCl M)[mCi M]? = some (RX10, TX10, 61)) : ∀ (rf : Nat) (x1 : Int64) (σ : MS) (v : MS), f_writeWord rf x1 σ = some v → Met l yX10_writeWord (ws_ yX10_writeWord cX10_writeWord 3 none) (rmD (2 + 1 * rf)) (va_Pc [.ref (mO M), .long x1] (MU M σ)) (Qm M none v) 0 0 (mAd M) := by
  intro rf
  induction rf with
  | zero => intro x1 σ v hf; cases hf
  | succ rf ih =>
    intro x1 σ v hf
    exact metg_writeWord (rf := rf) (fun a0 σ v h => ih a0 σ v h) hc hf
theorem mco_writeWord {K : KT} {M : MT} {cc : ByteArray} {nL pc dk : Nat} {L : List (Nat × Value)} {rest : List Value} {σ : MS} {v : MS} {x1 : Int64} (C : Kok K cc nL RX10) (B : MB K M) (dK : kR K = rmD dk) (hd : 66 + 1 ≤ dk) (hf : f_writeWord 64 x1 σ = some v) (hW : (rest.map fun v => v.category).sum ≤ 8) (dd : decode cc pc = .ok (.invokevirtual 431, 3)) (kk2 : XJ K nL (Wm K M v) (pc + 3) L (rest)) : XJ K nL (Wm K M σ) pc L (.long x1 :: .ref (mO M) :: rest) :=
  m_callV (rest := rest) (v := none) [.long x1] 1 rfl C B dK hd (Nat.le_of_ble_eq_true rfl) (lw_V q2413 q2415 qs103 q133 q2416) (by decide +kernel) (met_writeWord B.2 64 _ _ _ hf) rfl hW dd kk2
def f_plaque (x1 : Int32) (σ : MS) : Option (Int32 × MS) := ev (si σ 0 (0 : Int32)) fun s1 => if (f_isStatue s1 x1) = 0 then (some ((-1 : Int32), s1)) else (ev (si s1 51 (0 : Int32)) fun s3 => if inb ((13 : Int32) + x1) 29 = true then (f_writeWord 64 (gb s3 19 (Int32.toNatClampNeg ((13 : Int32) + x1))) s3).bind fun r5 => (f_write (32 : Int32) r5).bind fun r6 => if inb ((226 : Int32) + x1) 532 = true then if (ga r6 14 (Int32.toNatClampNeg ((226 : Int32) + x1))) ≤ 0 then ((f_writeWord 64 (f_spelt (105 : Int32) (115 : Int32) (0 : Int32) (0 : Int32) (0 : Int32) (0 : Int32) (0 : Int32)) r6).bind fun r9 => (f_write (32 : Int32) r9).bind fun r10 => (f_writeWord 64 (f_wordOf (19 : Int32)) r10).bind fun r11 => (f_write (32 : Int32) r11).bind fun r12 => if (f_isEvicted r12 x1) = 0 then (if inb ((210 : Int32) + x1) 532 = true then if inb (ga r12 14 (Int32.toNatClampNeg ((210 : Int32) + x1))) 29 = true then (f_writeWord 64 (gb r12 19 (Int32.toNatClampNeg (ga r12 14 (Int32.toNatClampNeg ((210 : Int32) + x1))))) r12).bind fun r16 => some (gi r16 51, r16) else none else none) else ((f_writeWord 64 (f_spelt (110 : Int32) (111 : Int32) (119 : Int32) (104 : Int32) (101 : Int32) (114 : Int32) (101 : Int32)) r12).bind fun r17 => some (gi r17 51, r17))) else ((f_writeWord 64 (f_wordOf (21 : Int32)) r6).bind fun r18 => (f_write (32 : Int32) r18).bind fun r19 => if inb ((226 : Int32) + x1) 532 = true then (f_writeNumber 64 (ga r19 14 (Int32.toNatClampNeg ((226 : Int32) + x1))) r19).bind fun r21 => some (gi r21 51, r21) else none) else none else none)
set_option maxHeartbeats 4000000 in
theorem w_plaque_E {K : KT} {M : MT} {r : Int32} {τ : MS} (C : Kok K cX10_plaque 2 RX10) (B : MB K M) (hr : (kMe K).sig.returnType = some .int) (dK : kR K = rmD 67) (hQ : KQm K M (some (.int r)) τ) (x1 : Int32) (σ : MS) (hf : f_plaque x1 σ = some (r, τ)) : XJ K 2 (Wm K M σ) 0 [(0, .ref (mO M)), (1, .int x1)] [] := by
  unfold f_plaque at hf
  refine x_aload_n C dX10_plaque_0 0 rfl ?_
  refine x_iconst (0 : Int32) C dX10_plaque_1 (by decide) ?_
  refine mp_0 C B dX10_plaque_2 ?_
  obtain ⟨s1, es1, hf⟩ := pf_e hf
  refine m_ren es1 ?_
  refine x_aload_n C dX10_plaque_5 0 rfl ?_
  refine x_iload_n C dX10_plaque_6 1 rfl ?_
  refine mc_isStatue C B dK (Nat.le_of_ble_eq_true rfl) rfl (Nat.le_of_ble_eq_true rfl) dX10_plaque_7 ?_
  refine x_if_ne (tgt := 15) C dX10_plaque_10 (by decide) (fun c2 => ?_) (fun c2 => ?_)
  · have hf := pf_f c2 hf
    refine x_aload_n C dX10_plaque_15 0 rfl ?_
    refine x_iconst (0 : Int32) C dX10_plaque_16 (by decide) ?_
    refine mp_51 C B dX10_plaque_17 ?_
    obtain ⟨s3, es3, hf⟩ := pf_e hf
    refine m_ren es3 ?_
    refine x_aload_n C dX10_plaque_20 0 rfl ?_
    refine x_aload_n C dX10_plaque_21 0 rfl ?_
    refine mg_19 C B dX10_plaque_22 ?_
    refine x_bipush (13 : Int32) C dX10_plaque_25 (by decide) ?_
    refine x_iload_n C dX10_plaque_27 1 rfl ?_
    refine x_iadd C dX10_plaque_28 ?_
    obtain ⟨h4, hf⟩ := pf_in hf
    refine ml_19 C B h4 dX10_plaque_29 ?_
    obtain ⟨r5, er5, hf⟩ := pf_b hf
    refine mco_writeWord C B dK (Nat.le_of_ble_eq_true rfl) er5 (Nat.le_of_ble_eq_true rfl) dX10_plaque_30 ?_
    refine x_aload_n C dX10_plaque_33 0 rfl ?_
    refine x_bipush (32 : Int32) C dX10_plaque_34 (by decide) ?_
    obtain ⟨r6, er6, hf⟩ := pf_b hf
    refine mc_write C B dK (Nat.le_of_ble_eq_true rfl) er6 (Nat.le_of_ble_eq_true rfl) dX10_plaque_36 ?_
    refine x_aload_n C dX10_plaque_39 0 rfl ?_
    refine mg_14 C B dX10_plaque_40 ?_
    refine x_sipush (226 : Int32) C dX10_plaque_43 (by decide) ?_
    refine x_iload_n C dX10_plaque_46 1 rfl ?_
    refine x_iadd C dX10_plaque_47 ?_
    obtain ⟨h7, hf⟩ := pf_in hf
    refine ml_14 C B h7 dX10_plaque_48 ?_
    refine x_if_le (tgt := 86) C dX10_plaque_49 (by decide) (fun c8 => ?_) (fun c8 => ?_)
    · have hf := pf_t c8 hf
      refine x_aload_n C dX10_plaque_86 0 rfl ?_
      refine x_bipush (105 : Int32) C dX10_plaque_87 (by decide) ?_
      refine x_bipush (115 : Int32) C dX10_plaque_89 (by decide) ?_
      refine x_iconst (0 : Int32) C dX10_plaque_91 (by decide) ?_
      refine x_iconst (0 : Int32) C dX10_plaque_92 (by decide) ?_
      refine x_iconst (0 : Int32) C dX10_plaque_93 (by decide) ?_
      refine x_iconst (0 : Int32) C dX10_plaque_94 (by decide) ?_
      refine x_iconst (0 : Int32) C dX10_plaque_95 (by decide) ?_
      refine mc_spelt C B dK (Nat.le_of_ble_eq_true rfl) rfl (Nat.le_of_ble_eq_true rfl) dX10_plaque_96 ?_
      obtain ⟨r9, er9, hf⟩ := pf_b hf
      refine mco_writeWord C B dK (Nat.le_of_ble_eq_true rfl) er9 (Nat.le_of_ble_eq_true rfl) dX10_plaque_99 ?_
      refine x_aload_n C dX10_plaque_102 0 rfl ?_
      refine x_bipush (32 : Int32) C dX10_plaque_103 (by decide) ?_
      obtain ⟨r10, er10, hf⟩ := pf_b hf
      refine mc_write C B dK (Nat.le_of_ble_eq_true rfl) er10 (Nat.le_of_ble_eq_true rfl) dX10_plaque_105 ?_
      refine x_aload_n C dX10_plaque_108 0 rfl ?_
      refine x_bipush (19 : Int32) C dX10_plaque_109 (by decide) ?_
      refine mc_wordOf C B dK (Nat.le_of_ble_eq_true rfl) rfl (Nat.le_of_ble_eq_true rfl) dX10_plaque_111 ?_
      obtain ⟨r11, er11, hf⟩ := pf_b hf
      refine mco_writeWord C B dK (Nat.le_of_ble_eq_true rfl) er11 (Nat.le_of_ble_eq_true rfl) dX10_plaque_114 ?_
      refine x_aload_n C dX10_plaque_117 0 rfl ?_
      refine x_bipush (32 : Int32) C dX10_plaque_118 (by decide) ?_
      obtain ⟨r12, er12, hf⟩ := pf_b hf
      refine mc_write C B dK (Nat.le_of_ble_eq_true rfl) er12 (Nat.le_of_ble_eq_true rfl) dX10_plaque_120 ?_
      refine x_aload_n C dX10_plaque_123 0 rfl ?_
      refine x_aload_n C dX10_plaque_124 0 rfl ?_
      refine x_iload_n C dX10_plaque_125 1 rfl ?_
      refine mc_isEvicted C B dK (Nat.le_of_ble_eq_true rfl) rfl (Nat.le_of_ble_eq_true rfl) dX10_plaque_126 ?_
      refine x_if_eq (tgt := 152) C dX10_plaque_129 (by decide) (fun c13 => ?_) (fun c13 => ?_)
      · have hf := pf_t c13 hf
        refine x_aload_n C dX10_plaque_152 0 rfl ?_
        refine mg_19 C B dX10_plaque_153 ?_
        refine x_aload_n C dX10_plaque_156 0 rfl ?_
        refine mg_14 C B dX10_plaque_157 ?_
        refine x_sipush (210 : Int32) C dX10_plaque_160 (by decide) ?_
        refine x_iload_n C dX10_plaque_163 1 rfl ?_
        refine x_iadd C dX10_plaque_164 ?_
        obtain ⟨h14, hf⟩ := pf_in hf
        refine ml_14 C B h14 dX10_plaque_165 ?_
        obtain ⟨h15, hf⟩ := pf_in hf
        refine ml_19 C B h15 dX10_plaque_166 ?_
        obtain ⟨r16, er16, hf⟩ := pf_b hf
        refine mco_writeWord C B dK (Nat.le_of_ble_eq_true rfl) er16 (Nat.le_of_ble_eq_true rfl) dX10_plaque_167 ?_
        refine x_aload_n C dX10_plaque_170 0 rfl ?_
        refine mg_51 C B dX10_plaque_171 ?_
        obtain ⟨rfl, rfl⟩ := Prod.mk.inj (Option.some.inj hf)
        exact m_iret C hr hQ dX10_plaque_174
      · have hf := pf_f c13 hf
        refine x_bipush (110 : Int32) C dX10_plaque_132 (by decide) ?_
        refine x_bipush (111 : Int32) C dX10_plaque_134 (by decide) ?_
        refine x_bipush (119 : Int32) C dX10_plaque_136 (by decide) ?_
        refine x_bipush (104 : Int32) C dX10_plaque_138 (by decide) ?_
        refine x_bipush (101 : Int32) C dX10_plaque_140 (by decide) ?_
        refine x_bipush (114 : Int32) C dX10_plaque_142 (by decide) ?_
        refine x_bipush (101 : Int32) C dX10_plaque_144 (by decide) ?_
        refine mc_spelt C B dK (Nat.le_of_ble_eq_true rfl) rfl (Nat.le_of_ble_eq_true rfl) dX10_plaque_146 ?_
        refine x_goto (tgt := 167) C dX10_plaque_149 (by decide) ?_
        obtain ⟨r17, er17, hf⟩ := pf_b hf
        refine mco_writeWord C B dK (Nat.le_of_ble_eq_true rfl) er17 (Nat.le_of_ble_eq_true rfl) dX10_plaque_167 ?_
        refine x_aload_n C dX10_plaque_170 0 rfl ?_
        refine mg_51 C B dX10_plaque_171 ?_
        obtain ⟨rfl, rfl⟩ := Prod.mk.inj (Option.some.inj hf)
        exact m_iret C hr hQ dX10_plaque_174
    · have hf := pf_f c8 hf
      refine x_aload_n C dX10_plaque_52 0 rfl ?_
      refine x_bipush (21 : Int32) C dX10_plaque_53 (by decide) ?_
      refine mc_wordOf C B dK (Nat.le_of_ble_eq_true rfl) rfl (Nat.le_of_ble_eq_true rfl) dX10_plaque_55 ?_
      obtain ⟨r18, er18, hf⟩ := pf_b hf
      refine mco_writeWord C B dK (Nat.le_of_ble_eq_true rfl) er18 (Nat.le_of_ble_eq_true rfl) dX10_plaque_58 ?_
      refine x_aload_n C dX10_plaque_61 0 rfl ?_
      refine x_bipush (32 : Int32) C dX10_plaque_62 (by decide) ?_
      obtain ⟨r19, er19, hf⟩ := pf_b hf
      refine mc_write C B dK (Nat.le_of_ble_eq_true rfl) er19 (Nat.le_of_ble_eq_true rfl) dX10_plaque_64 ?_
      refine x_aload_n C dX10_plaque_67 0 rfl ?_
      refine x_aload_n C dX10_plaque_68 0 rfl ?_
      refine mg_14 C B dX10_plaque_69 ?_
      refine x_sipush (226 : Int32) C dX10_plaque_72 (by decide) ?_
      refine x_iload_n C dX10_plaque_75 1 rfl ?_
      refine x_iadd C dX10_plaque_76 ?_
      obtain ⟨h20, hf⟩ := pf_in hf
      refine ml_14 C B h20 dX10_plaque_77 ?_
      obtain ⟨r21, er21, hf⟩ := pf_b hf
      refine mco_writeNumber C B dK (Nat.le_of_ble_eq_true rfl) er21 (Nat.le_of_ble_eq_true rfl) dX10_plaque_78 ?_
      refine x_aload_n C dX10_plaque_81 0 rfl ?_
      refine mg_51 C B dX10_plaque_82 ?_
      obtain ⟨rfl, rfl⟩ := Prod.mk.inj (Option.some.inj hf)
      exact m_iret C hr hQ dX10_plaque_85
  · have hf := pf_t c2 hf
    refine x_iconst (-1 : Int32) C dX10_plaque_13 (by decide) ?_
    obtain ⟨rfl, rfl⟩ := Prod.mk.inj (Option.some.inj hf)
    exact m_iret C hr hQ dX10_plaque_14
theorem met_plaque {M : MT} {v : (Int32 × MS)} {σ : MS} {x1 : Int32} {l : Launch} (hc : (mCl M)[mCi M]? = some (RX10, TX10, 61)) (hf : f_plaque x1 σ = some v) : Met l yX10_plaque (ws_ yX10_plaque cX10_plaque 2 (some .int)) (rmD 67) (va_Pc [.ref (mO M), .int x1] (MU M σ)) (Qm M (some (.int v.1)) v.2) 0 0 (mAd M) :=
  m_met [.ref (mO M), .int x1] (by decide) rfl (Nat.le_of_ble_eq_true rfl) hc (fun K hl hR hr C B hQ => w_plaque_E C B hr hR hQ _ _ hf)
def f_byteAt (x1 : Int32) (σ : MS) : Option (Int32 × MS) := ev (si σ 0 (0 : Int32)) fun s1 => if (f_isIn x1 (0 : Int32) ((gi s1 51) - (1 : Int32))) = 0 then (some ((-1 : Int32), s1)) else (if inb x1 64 = true then some (ga s1 50 (Int32.toNatClampNeg x1), s1) else none)
set_option maxHeartbeats 4000000 in
theorem w_byteAt_E {K : KT} {M : MT} {r : Int32} {τ : MS} (C : Kok K cX10_byteAt 2 RX10) (B : MB K M) (hr : (kMe K).sig.returnType = some .int) (dK : kR K = rmD 2) (hQ : KQm K M (some (.int r)) τ) (x1 : Int32) (σ : MS) (hf : f_byteAt x1 σ = some (r, τ)) : XJ K 2 (Wm K M σ) 0 [(0, .ref (mO M)), (1, .int x1)] [] := by
  unfold f_byteAt at hf
  refine x_aload_n C dX10_byteAt_0 0 rfl ?_
  refine x_iconst (0 : Int32) C dX10_byteAt_1 (by decide) ?_
  refine mp_0 C B dX10_byteAt_2 ?_
  obtain ⟨s1, es1, hf⟩ := pf_e hf
  refine m_ren es1 ?_
  refine x_iload_n C dX10_byteAt_5 1 rfl ?_
  refine x_iconst (0 : Int32) C dX10_byteAt_6 (by decide) ?_
  refine x_aload_n C dX10_byteAt_7 0 rfl ?_
  refine mg_51 C B dX10_byteAt_8 ?_
  refine x_iconst (1 : Int32) C dX10_byteAt_11 (by decide) ?_
  refine x_isub C dX10_byteAt_12 ?_
  refine mc_isIn C B dK (Nat.le_of_ble_eq_true rfl) rfl (Nat.le_of_ble_eq_true rfl) dX10_byteAt_13 ?_
  refine x_if_eq (tgt := 28) C dX10_byteAt_16 (by decide) (fun c2 => ?_) (fun c2 => ?_)
  · have hf := pf_t c2 hf
    refine x_iconst (-1 : Int32) C dX10_byteAt_28 (by decide) ?_
    obtain ⟨rfl, rfl⟩ := Prod.mk.inj (Option.some.inj hf)
    exact m_iret C hr hQ dX10_byteAt_29
  · have hf := pf_f c2 hf
    refine x_aload_n C dX10_byteAt_19 0 rfl ?_
    refine mg_50 C B dX10_byteAt_20 ?_
    refine x_iload_n C dX10_byteAt_23 1 rfl ?_
    obtain ⟨h3, hf⟩ := pf_in hf
    refine ml_50 C B h3 dX10_byteAt_24 ?_
    refine x_goto (tgt := 29) C dX10_byteAt_25 (by decide) ?_
    obtain ⟨rfl, rfl⟩ := Prod.mk.inj (Option.some.inj hf)
    exact m_iret C hr hQ dX10_byteAt_29
theorem met_byteAt {M : MT} {v : (Int32 × MS)} {σ : MS} {x1 : Int32} {l : Launch} (hc : (mCl M)[mCi M]? = some (RX10, TX10, 61)) (hf : f_byteAt x1 σ = some v) : Met l yX10_byteAt (ws_ yX10_byteAt cX10_byteAt 2 (some .int)) (rmD 2) (va_Pc [.ref (mO M), .int x1] (MU M σ)) (Qm M (some (.int v.1)) v.2) 0 0 (mAd M) :=
  m_met [.ref (mO M), .int x1] (by decide) rfl (Nat.le_of_ble_eq_true rfl) hc (fun K hl hR hr C B hQ => w_byteAt_E C B hr hR hQ _ _ hf)
def f_live_209 (n : Nat) (x1 : Int32) (x2 : Int32) (x3 : Int32) (y0 : Int32) (σ : MS) : Option (Int32 × MS) := if y0 = 0 then (if inb (x1 + (3 : Int32)) 160 = true then (f_doLend x2 x3 (ga σ 52 (Int32.toNatClampNeg (x1 + (3 : Int32)))) σ).bind fun r4 => if y0 = 0 then (some ((0 : Int32), r4)) else (some ((30 : Int32) + y0, r4)) else none) else (if y0 = 0 then (some ((0 : Int32), σ)) else (some ((30 : Int32) + y0, σ)))
set_option maxHeartbeats 4000000 in
theorem w_live_209 {K : KT} {M : MT} {r : Int32} {τ : MS} (n : Nat) (C : Kok K cX10_live 5 RX10) (B : MB K M) (hr : (kMe K).sig.returnType = some .int) (dK : kR K = rmD 6) (hQ : KQm K M (some (.int r)) τ) (x1 : Int32) (x2 : Int32) (x3 : Int32) (y0 : Int32) (σ : MS) (hf : f_live_209 n x1 x2 x3 y0 σ = some (r, τ)) : XJ K 5 (Wm K M σ) 209 [(0, .ref (mO M)), (1, .int x1), (2, .int x2), (3, .int x3)] [.int y0] := by
  unfold f_live_209 at hf
  refine x_istore (L' := [(0, .ref (mO M)), (1, .int x1), (2, .int x2), (3, .int x3), (4, .int y0)]) C dX10_live_209 (Nat.le_of_ble_eq_true rfl) [1, 2, 3, 4, 0] rfl ?_
  refine x_iload C dX10_live_211 4 rfl ?_
  refine x_if_ne (tgt := 230) C dX10_live_213 (by decide) (fun c1 => ?_) (fun c1 => ?_)
  · have hf := pf_f c1 hf
    refine x_iload C dX10_live_230 4 rfl ?_
    refine x_if_ne (tgt := 239) C dX10_live_232 (by decide) (fun c2 => ?_) (fun c2 => ?_)
    · have hf := pf_f c2 hf
      refine x_bipush (30 : Int32) C dX10_live_239 (by decide) ?_
      refine x_iload C dX10_live_241 4 rfl ?_
      refine x_iadd C dX10_live_243 ?_
      obtain ⟨rfl, rfl⟩ := Prod.mk.inj (Option.some.inj hf)
      exact m_iret C hr hQ dX10_live_244
    · have hf := pf_t c2 hf
      refine x_iconst (0 : Int32) C dX10_live_235 (by decide) ?_
      refine x_goto (tgt := 244) C dX10_live_236 (by decide) ?_
      obtain ⟨rfl, rfl⟩ := Prod.mk.inj (Option.some.inj hf)
      exact m_iret C hr hQ dX10_live_244
  · have hf := pf_t c1 hf
    refine x_aload_n C dX10_live_216 0 rfl ?_
    refine x_iload_n C dX10_live_217 2 rfl ?_
    refine x_iload_n C dX10_live_218 3 rfl ?_
    refine x_aload_n C dX10_live_219 0 rfl ?_
    refine mg_52 C B dX10_live_220 ?_
    refine x_iload_n C dX10_live_223 1 rfl ?_
    refine x_iconst (3 : Int32) C dX10_live_224 (by decide) ?_
    refine x_iadd C dX10_live_225 ?_
    obtain ⟨h3, hf⟩ := pf_in hf
    refine ml_52 C B h3 dX10_live_226 ?_
    obtain ⟨r4, er4, hf⟩ := pf_b hf
    refine mc_doLend C B dK (Nat.le_of_ble_eq_true rfl) er4 (Nat.le_of_ble_eq_true rfl) dX10_live_227 ?_
    refine x_iload C dX10_live_230 4 rfl ?_
    refine x_if_ne (tgt := 239) C dX10_live_232 (by decide) (fun c5 => ?_) (fun c5 => ?_)
    · have hf := pf_f c5 hf
      refine x_bipush (30 : Int32) C dX10_live_239 (by decide) ?_
      refine x_iload C dX10_live_241 4 rfl ?_
      refine x_iadd C dX10_live_243 ?_
      obtain ⟨rfl, rfl⟩ := Prod.mk.inj (Option.some.inj hf)
      exact m_iret C hr hQ dX10_live_244
    · have hf := pf_t c5 hf
      refine x_iconst (0 : Int32) C dX10_live_235 (by decide) ?_
      refine x_goto (tgt := 244) C dX10_live_236 (by decide) ?_
      obtain ⟨rfl, rfl⟩ := Prod.mk.inj (Option.some.inj hf)
      exact m_iret C hr hQ dX10_live_244
def f_live (n : Nat) (x1 : Int32) (σ : MS) : Option (Int32 × MS) := if inb (x1 + (1 : Int32)) 160 = true then ev (ga σ 52 (Int32.toNatClampNeg (x1 + (1 : Int32)))) fun v2 => if inb (x1 + (2 : Int32)) 160 = true then ev (ga σ 52 (Int32.toNatClampNeg (x1 + (2 : Int32)))) fun v4 => if inb x1 160 = true then if (ga σ 52 (Int32.toNatClampNeg x1)) = (7 : Int32) then ((f_whyMove n σ v2 v4).bind fun r11 => if r11 = 0 then (if inb ((210 : Int32) + v2) 532 = true then ev (sa σ 14 (Int32.toNatClampNeg ((210 : Int32) + v2)) v4) fun s14 => some (r11, s14) else none) else (some (r11, σ))) else (if (ga σ 52 (Int32.toNatClampNeg x1)) = (8 : Int32) then ((f_whyClean σ v2).bind fun r15 => if r15 = 0 then ((f_doClean v2 σ).bind fun r18 => if r15 = 0 then (some ((0 : Int32), r18)) else (some ((10 : Int32) + r15, r18))) else (if r15 = 0 then (some ((0 : Int32), σ)) else (some ((10 : Int32) + r15, σ)))) else (if (ga σ 52 (Int32.toNatClampNeg x1)) = (9 : Int32) then ((f_whyShow σ v2 v4).bind fun r20 => if r20 = 0 then ((f_doShow v2 v4 σ).bind fun r23 => if r20 = 0 then (some ((0 : Int32), r23)) else (some ((20 : Int32) + r20, r23))) else (if r20 = 0 then (some ((0 : Int32), σ)) else (some ((20 : Int32) + r20, σ)))) else (if (ga σ 52 (Int32.toNatClampNeg x1)) = (10 : Int32) then (if v2 = v4 then (f_live_209 n x1 v2 v4 (9 : Int32) σ) else (if inb (x1 + (3 : Int32)) 160 = true then (f_whyLend σ v2 v4 (ga σ 52 (Int32.toNatClampNeg (x1 + (3 : Int32))))).bind fun r27 => f_live_209 n x1 v2 v4 r27 σ else none)) else (if (ga σ 52 (Int32.toNatClampNeg x1)) = (11 : Int32) then (if ((ga σ 14 198) + v4) ≤ (400 : Int32) then (ev (si σ 27 v4) fun s29 => (f_passDays n v4 s29).bind fun r30 => some ((0 : Int32), r30.2)) else (some ((41 : Int32), σ))) else (if v2 = v4 then (f_live_209 n x1 v2 v4 (9 : Int32) σ) else (if inb (x1 + (3 : Int32)) 160 = true then (f_whyLend σ v2 v4 (ga σ 52 (Int32.toNatClampNeg (x1 + (3 : Int32))))).bind fun r33 => f_live_209 n x1 v2 v4 r33 σ else none)))))) else none else none else none
set_option maxHeartbeats 4000000 in
theorem w_live_E {K : KT} {M : MT} {r : Int32} {τ : MS} (n : Nat) (C : Kok K cX10_live 5 RX10) (B : MB K M) (hr : (kMe K).sig.returnType = some .int) (dK : kR K = rmD 6) (hQ : KQm K M (some (.int r)) τ) (x1 : Int32) (σ : MS) (hf : f_live n x1 σ = some (r, τ)) : XJ K 5 (Wm K M σ) 0 [(0, .ref (mO M)), (1, .int x1)] [] := by
  unfold f_live at hf
  refine x_aload_n C dX10_live_0 0 rfl ?_
  refine mg_52 C B dX10_live_1 ?_
  refine x_iload_n C dX10_live_4 1 rfl ?_
  refine x_iconst (1 : Int32) C dX10_live_5 (by decide) ?_
  refine x_iadd C dX10_live_6 ?_
  obtain ⟨h1, hf⟩ := pf_in hf
  refine ml_52 C B h1 dX10_live_7 ?_
  obtain ⟨v2, ev2, hf⟩ := pf_e hf
  refine x_topir ev2 ?_
  refine x_istore_n (L' := [(0, .ref (mO M)), (1, .int x1), (2, .int v2)]) C dX10_live_8 (Nat.le_of_ble_eq_true rfl) [1, 2, 0] rfl ?_
  refine x_aload_n C dX10_live_9 0 rfl ?_
  refine mg_52 C B dX10_live_10 ?_
  refine x_iload_n C dX10_live_13 1 rfl ?_
  refine x_iconst (2 : Int32) C dX10_live_14 (by decide) ?_
  refine x_iadd C dX10_live_15 ?_
  obtain ⟨h3, hf⟩ := pf_in hf
  refine ml_52 C B h3 dX10_live_16 ?_
  obtain ⟨v4, ev4, hf⟩ := pf_e hf
  refine x_topir ev4 ?_
  refine x_istore_n (L' := [(0, .ref (mO M)), (1, .int x1), (2, .int v2), (3, .int v4)]) C dX10_live_17 (Nat.le_of_ble_eq_true rfl) [1, 2, 3, 0] rfl ?_
  refine x_iconst (0 : Int32) C dX10_live_18 (by decide) ?_
  refine x_istore (L' := [(0, .ref (mO M)), (1, .int x1), (2, .int v2), (3, .int v4)]) C dX10_live_19 (Nat.le_of_ble_eq_true rfl) [1, 2, 3, 4] rfl ?_
  refine x_aload_n C dX10_live_21 0 rfl ?_
  refine mg_52 C B dX10_live_22 ?_
  refine x_iload_n C dX10_live_25 1 rfl ?_
  obtain ⟨h5, hf⟩ := pf_in hf
  refine ml_52 C B h5 dX10_live_26 ?_
  by_cases c6 : (ga σ 52 (Int32.toNatClampNeg x1)) = (7 : Int32)
  · have hf := pf_t c6 hf
    refine x_tableIn (off := 65) (tgt := 92) C dX10_live_27 (by rw [c6]; decide) (by rw [c6]; decide) (by rw [c6]; decide) (by decide) ?_
    refine x_aload_n C dX10_live_92 0 rfl ?_
    refine x_iload_n C dX10_live_93 2 rfl ?_
    refine x_iload_n C dX10_live_94 3 rfl ?_
    obtain ⟨r11, er11, hf⟩ := pf_b hf
    refine mc_whyMove C B dK (Nat.le_of_ble_eq_true rfl) er11 (Nat.le_of_ble_eq_true rfl) dX10_live_95 ?_
    refine x_istore (L' := [(0, .ref (mO M)), (2, .int v2), (3, .int v4), (4, .int r11)]) C dX10_live_98 (Nat.le_of_ble_eq_true rfl) [1, 3, 4, 0] rfl ?_
    refine x_iload C dX10_live_100 3 rfl ?_
    refine x_if_ne (tgt := 116) C dX10_live_102 (by decide) (fun c12 => ?_) (fun c12 => ?_)
    · have hf := pf_f c12 hf
      refine x_iload C dX10_live_116 3 rfl ?_
      obtain ⟨rfl, rfl⟩ := Prod.mk.inj (Option.some.inj hf)
      exact m_iret C hr hQ dX10_live_118
    · have hf := pf_t c12 hf
      refine x_aload_n C dX10_live_105 0 rfl ?_
      refine mg_14 C B dX10_live_106 ?_
      refine x_sipush (210 : Int32) C dX10_live_109 (by decide) ?_
      refine x_iload_n C dX10_live_112 1 rfl ?_
      refine x_iadd C dX10_live_113 ?_
      refine x_iload_n C dX10_live_114 2 rfl ?_
      obtain ⟨h13, hf⟩ := pf_in hf
      refine ms_14 C B h13 dX10_live_115 ?_
      obtain ⟨s14, es14, hf⟩ := pf_e hf
      refine m_ren es14 ?_
      refine x_iload C dX10_live_116 3 rfl ?_
      obtain ⟨rfl, rfl⟩ := Prod.mk.inj (Option.some.inj hf)
      exact m_iret C hr hQ dX10_live_118
  · have hf := pf_f c6 hf
    by_cases c7 : (ga σ 52 (Int32.toNatClampNeg x1)) = (8 : Int32)
    · have hf := pf_t c7 hf
      refine x_tableIn (off := 92) (tgt := 119) C dX10_live_27 (by rw [c7]; decide) (by rw [c7]; decide) (by rw [c7]; decide) (by decide) ?_
      refine x_aload_n C dX10_live_119 0 rfl ?_
      refine x_iload_n C dX10_live_120 2 rfl ?_
      obtain ⟨r15, er15, hf⟩ := pf_b hf
      refine mc_whyClean C B dK (Nat.le_of_ble_eq_true rfl) er15 (Nat.le_of_ble_eq_true rfl) dX10_live_121 ?_
      refine x_istore (L' := [(0, .ref (mO M)), (2, .int v2), (4, .int r15)]) C dX10_live_124 (Nat.le_of_ble_eq_true rfl) [1, 3, 0] rfl ?_
      refine x_iload C dX10_live_126 2 rfl ?_
      refine x_if_ne (tgt := 136) C dX10_live_128 (by decide) (fun c16 => ?_) (fun c16 => ?_)
      · have hf := pf_f c16 hf
        refine x_iload C dX10_live_136 2 rfl ?_
        refine x_if_ne (tgt := 145) C dX10_live_138 (by decide) (fun c17 => ?_) (fun c17 => ?_)
        · have hf := pf_f c17 hf
          refine x_bipush (10 : Int32) C dX10_live_145 (by decide) ?_
          refine x_iload C dX10_live_147 2 rfl ?_
          refine x_iadd C dX10_live_149 ?_
          obtain ⟨rfl, rfl⟩ := Prod.mk.inj (Option.some.inj hf)
          exact m_iret C hr hQ dX10_live_150
        · have hf := pf_t c17 hf
          refine x_iconst (0 : Int32) C dX10_live_141 (by decide) ?_
          refine x_goto (tgt := 150) C dX10_live_142 (by decide) ?_
          obtain ⟨rfl, rfl⟩ := Prod.mk.inj (Option.some.inj hf)
          exact m_iret C hr hQ dX10_live_150
      · have hf := pf_t c16 hf
        refine x_aload_n C dX10_live_131 0 rfl ?_
        refine x_iload_n C dX10_live_132 1 rfl ?_
        obtain ⟨r18, er18, hf⟩ := pf_b hf
        refine mc_doClean C B dK (Nat.le_of_ble_eq_true rfl) er18 (Nat.le_of_ble_eq_true rfl) dX10_live_133 ?_
        refine x_iload C dX10_live_136 2 rfl ?_
        refine x_if_ne (tgt := 145) C dX10_live_138 (by decide) (fun c19 => ?_) (fun c19 => ?_)
        · have hf := pf_f c19 hf
          refine x_bipush (10 : Int32) C dX10_live_145 (by decide) ?_
          refine x_iload C dX10_live_147 2 rfl ?_
          refine x_iadd C dX10_live_149 ?_
          obtain ⟨rfl, rfl⟩ := Prod.mk.inj (Option.some.inj hf)
          exact m_iret C hr hQ dX10_live_150
        · have hf := pf_t c19 hf
          refine x_iconst (0 : Int32) C dX10_live_141 (by decide) ?_
          refine x_goto (tgt := 150) C dX10_live_142 (by decide) ?_
          obtain ⟨rfl, rfl⟩ := Prod.mk.inj (Option.some.inj hf)
          exact m_iret C hr hQ dX10_live_150
    · have hf := pf_f c7 hf
      by_cases c8 : (ga σ 52 (Int32.toNatClampNeg x1)) = (9 : Int32)
      · have hf := pf_t c8 hf
        refine x_tableIn (off := 124) (tgt := 151) C dX10_live_27 (by rw [c8]; decide) (by rw [c8]; decide) (by rw [c8]; decide) (by decide) ?_
        refine x_aload_n C dX10_live_151 0 rfl ?_
        refine x_iload_n C dX10_live_152 2 rfl ?_
        refine x_iload_n C dX10_live_153 3 rfl ?_
        obtain ⟨r20, er20, hf⟩ := pf_b hf
        refine mc_whyShow C B dK (Nat.le_of_ble_eq_true rfl) er20 (Nat.le_of_ble_eq_true rfl) dX10_live_154 ?_
        refine x_istore (L' := [(0, .ref (mO M)), (2, .int v2), (3, .int v4), (4, .int r20)]) C dX10_live_157 (Nat.le_of_ble_eq_true rfl) [1, 3, 4, 0] rfl ?_
        refine x_iload C dX10_live_159 3 rfl ?_
        refine x_if_ne (tgt := 170) C dX10_live_161 (by decide) (fun c21 => ?_) (fun c21 => ?_)
        · have hf := pf_f c21 hf
          refine x_iload C dX10_live_170 3 rfl ?_
          refine x_if_ne (tgt := 179) C dX10_live_172 (by decide) (fun c22 => ?_) (fun c22 => ?_)
          · have hf := pf_f c22 hf
            refine x_bipush (20 : Int32) C dX10_live_179 (by decide) ?_
            refine x_iload C dX10_live_181 3 rfl ?_
            refine x_iadd C dX10_live_183 ?_
            obtain ⟨rfl, rfl⟩ := Prod.mk.inj (Option.some.inj hf)
            exact m_iret C hr hQ dX10_live_184
          · have hf := pf_t c22 hf
            refine x_iconst (0 : Int32) C dX10_live_175 (by decide) ?_
            refine x_goto (tgt := 184) C dX10_live_176 (by decide) ?_
            obtain ⟨rfl, rfl⟩ := Prod.mk.inj (Option.some.inj hf)
            exact m_iret C hr hQ dX10_live_184
        · have hf := pf_t c21 hf
          refine x_aload_n C dX10_live_164 0 rfl ?_
          refine x_iload_n C dX10_live_165 1 rfl ?_
          refine x_iload_n C dX10_live_166 2 rfl ?_
          obtain ⟨r23, er23, hf⟩ := pf_b hf
          refine mc_doShow C B dK (Nat.le_of_ble_eq_true rfl) er23 (Nat.le_of_ble_eq_true rfl) dX10_live_167 ?_
          refine x_iload C dX10_live_170 3 rfl ?_
          refine x_if_ne (tgt := 179) C dX10_live_172 (by decide) (fun c24 => ?_) (fun c24 => ?_)
          · have hf := pf_f c24 hf
            refine x_bipush (20 : Int32) C dX10_live_179 (by decide) ?_
            refine x_iload C dX10_live_181 3 rfl ?_
            refine x_iadd C dX10_live_183 ?_
            obtain ⟨rfl, rfl⟩ := Prod.mk.inj (Option.some.inj hf)
            exact m_iret C hr hQ dX10_live_184
          · have hf := pf_t c24 hf
            refine x_iconst (0 : Int32) C dX10_live_175 (by decide) ?_
            refine x_goto (tgt := 184) C dX10_live_176 (by decide) ?_
            obtain ⟨rfl, rfl⟩ := Prod.mk.inj (Option.some.inj hf)
            exact m_iret C hr hQ dX10_live_184
      · have hf := pf_f c8 hf
        by_cases c9 : (ga σ 52 (Int32.toNatClampNeg x1)) = (10 : Int32)
        · have hf := pf_t c9 hf
          refine x_tableIn (off := 158) (tgt := 185) C dX10_live_27 (by rw [c9]; decide) (by rw [c9]; decide) (by rw [c9]; decide) (by decide) ?_
          refine x_iload_n C dX10_live_185 2 rfl ?_
          refine x_iload_n C dX10_live_186 3 rfl ?_
          refine x_icmp_ne (tgt := 195) C dX10_live_187 (by decide) (fun c25 => ?_) (fun c25 => ?_)
          · have hf := pf_f c25 hf
            refine x_aload_n C dX10_live_195 0 rfl ?_
            refine x_iload_n C dX10_live_196 2 rfl ?_
            refine x_iload_n C dX10_live_197 3 rfl ?_
            refine x_aload_n C dX10_live_198 0 rfl ?_
            refine mg_52 C B dX10_live_199 ?_
            refine x_iload_n C dX10_live_202 1 rfl ?_
            refine x_iconst (3 : Int32) C dX10_live_203 (by decide) ?_
            refine x_iadd C dX10_live_204 ?_
            obtain ⟨h26, hf⟩ := pf_in hf
            refine ml_52 C B h26 dX10_live_205 ?_
            obtain ⟨r27, er27, hf⟩ := pf_b hf
            refine mc_whyLend C B dK (Nat.le_of_ble_eq_true rfl) er27 (Nat.le_of_ble_eq_true rfl) dX10_live_206 ?_
            exact w_live_209 n C B hr dK hQ x1 v2 v4 r27 _ hf
          · have hf := pf_t c25 hf
            refine x_bipush (9 : Int32) C dX10_live_190 (by decide) ?_
            refine x_goto (tgt := 209) C dX10_live_192 (by decide) ?_
            exact w_live_209 n C B hr dK hQ x1 v2 v4 (9 : Int32) _ hf
        · have hf := pf_f c9 hf
          by_cases c10 : (ga σ 52 (Int32.toNatClampNeg x1)) = (11 : Int32)
          · have hf := pf_t c10 hf
            refine x_tableIn (off := 33) (tgt := 60) C dX10_live_27 (by rw [c10]; decide) (by rw [c10]; decide) (by rw [c10]; decide) (by decide) ?_
            refine x_aload_n C dX10_live_60 0 rfl ?_
            refine mg_14 C B dX10_live_61 ?_
            refine x_sipush (198 : Int32) C dX10_live_64 (by decide) ?_
            refine mlc_14 198 C B (by decide +kernel) dX10_live_67 ?_
            refine x_iload_n C dX10_live_68 3 rfl ?_
            refine x_iadd C dX10_live_69 ?_
            refine x_sipush (400 : Int32) C dX10_live_70 (by decide) ?_
            refine x_icmp_le (tgt := 79) C dX10_live_73 (by decide) (fun c28 => ?_) (fun c28 => ?_)
            · have hf := pf_t c28 hf
              refine x_aload_n C dX10_live_79 0 rfl ?_
              refine x_iload_n C dX10_live_80 3 rfl ?_
              refine mp_27 C B dX10_live_81 ?_
              obtain ⟨s29, es29, hf⟩ := pf_e hf
              refine m_ren es29 ?_
              refine x_aload_n C dX10_live_84 0 rfl ?_
              refine x_iload_n C dX10_live_85 3 rfl ?_
              obtain ⟨r30, er30, hf⟩ := pf_b hf
              refine mc_passDays C B dK (Nat.le_of_ble_eq_true rfl) er30 (Nat.le_of_ble_eq_true rfl) dX10_live_86 ?_
              refine x_pop C dX10_live_89 rfl ?_
              refine x_iconst (0 : Int32) C dX10_live_90 (by decide) ?_
              obtain ⟨rfl, rfl⟩ := Prod.mk.inj (Option.some.inj hf)
              exact m_iret C hr hQ dX10_live_91
            · have hf := pf_f c28 hf
              refine x_bipush (41 : Int32) C dX10_live_76 (by decide) ?_
              obtain ⟨rfl, rfl⟩ := Prod.mk.inj (Option.some.inj hf)
              exact m_iret C hr hQ dX10_live_78
          · have hf := pf_f c10 hf
            refine x_tableOut (tgt := 185) C dX10_live_27 (by have := lv_neT c6 (show (7 : Int32).toInt = (7 : Int) by decide); have := lv_neT c7 (show (8 : Int32).toInt = (8 : Int) by decide); have := lv_neT c8 (show (9 : Int32).toInt = (9 : Int) by decide); have := lv_neT c9 (show (10 : Int32).toInt = (10 : Int) by decide); have := lv_neT c10 (show (11 : Int32).toInt = (11 : Int) by decide); omega) (by decide) ?_
            refine x_iload_n C dX10_live_185 2 rfl ?_
            refine x_iload_n C dX10_live_186 3 rfl ?_
            refine x_icmp_ne (tgt := 195) C dX10_live_187 (by decide) (fun c31 => ?_) (fun c31 => ?_)
            · have hf := pf_f c31 hf
              refine x_aload_n C dX10_live_195 0 rfl ?_
              refine x_iload_n C dX10_live_196 2 rfl ?_
              refine x_iload_n C dX10_live_197 3 rfl ?_
              refine x_aload_n C dX10_live_198 0 rfl ?_
              refine mg_52 C B dX10_live_199 ?_
              refine x_iload_n C dX10_live_202 1 rfl ?_
              refine x_iconst (3 : Int32) C dX10_live_203 (by decide) ?_
              refine x_iadd C dX10_live_204 ?_
              obtain ⟨h32, hf⟩ := pf_in hf
              refine ml_52 C B h32 dX10_live_205 ?_
              obtain ⟨r33, er33, hf⟩ := pf_b hf
              refine mc_whyLend C B dK (Nat.le_of_ble_eq_true rfl) er33 (Nat.le_of_ble_eq_true rfl) dX10_live_206 ?_
              exact w_live_209 n C B hr dK hQ x1 v2 v4 r33 _ hf
            · have hf := pf_t c31 hf
              refine x_bipush (9 : Int32) C dX10_live_190 (by decide) ?_
              refine x_goto (tgt := 209) C dX10_live_192 (by decide) ?_
              exact w_live_209 n C B hr dK hQ x1 v2 v4 (9 : Int32) _ hf
theorem met_live {M : MT} {v : (Int32 × MS)} {n : Nat} {σ : MS} {x1 : Int32} {l : Launch} (hc : (mCl M)[mCi M]? = some (RX10, TX10, 61)) (hf : f_live n x1 σ = some v) : Met l yX10_live (ws_ yX10_live cX10_live 5 (some .int)) (rmD 6) (va_Pc [.ref (mO M), .int x1] (MU M σ)) (Qm M (some (.int v.1)) v.2) 0 0 (mAd M) :=
  m_met [.ref (mO M), .int x1] (by decide) rfl (Nat.le_of_ble_eq_true rfl) hc (fun K hl hR hr C B hQ => w_live_E _ C B hr hR hQ _ _ hf)
theorem mc_live {K : KT} {M : MT} {cc : ByteArray} {nL pc dk : Nat} {L : List (Nat × Value)} {rest : List Value} {σ : MS} {v : (Int32 × MS)} {n : Nat} {x1 : Int32} (C : Kok K cc nL RX10) (B : MB K M) (dK : kR K = rmD dk) (hd : 6 + 1 ≤ dk) (hf : f_live n x1 σ = some v) (hW : (rest.map fun v => v.category).sum ≤ 8) (dd : decode cc pc = .ok (.invokevirtual 453, 3)) (kk2 : XJ K nL (Wm K M v.2) (pc + 3) L ((.int v.1) :: rest)) : XJ K nL (Wm K M σ) pc L (.int x1 :: .ref (mO M) :: rest) :=
  m_callV (rest := rest) (v := (some (.int v.1))) [.int x1] 1 rfl C B dK hd (Nat.le_of_ble_eq_true rfl) (lw_V q2445 q2447 qs109 q133 q2448) (by decide +kernel) (met_live B.2 hf) rfl hW dd kk2
