/-! THE JDK'S TEXT METHODS: they change no cell -/
def PU (T : CT) (n : Nat) (fi : Nat → Int32) (a b : Nat) (U : State) : Prop := cStr T n fi a b U.heap ∧ va_K (tD T) ccl (cTy T) U ∧ SF T U U.heap
def Wp (K : KT) : WdT := fun H lo ce sl => H = (kS K).heap ∧ lo = [] ∧ ce = 0 ∧ sl = 0
def Qp (v : Option Value) : Array Value → State → Outcome → State → Prop := fun _ st oc t => oc = .returned v ∧ t.heap = st.heap
abbrev KQp (K : KT) (v : Option Value) : Prop := kQ K = MQ (kB K) (Qp v) (kA K) (kS K) 0 0 (fun _ => False)
theorem p_blind {T : CT} {n : Nat} {fi : Nat → Int32} {a b : Nat} {av : List Value} : FrameBlind (va_Pc av (PU T n fi a b)) := fun a9 U g9 mk q => by
  obtain ⟨q0, qP, qK, qS⟩ := q
  exact ⟨q0, qP, va_K.moved (u := U) (U := U.calling g9 mk a9) (Vm.Alike.refl U.vm) qK, SF.same (u := U) (U := U.calling g9 mk a9) rfl qS⟩
section PS
variable {K : KT} {T : CT} {n : Nat} {fi : Nat → Int32} {a b : Nat} {cc : ByteArray} {nL : Nat} {own : String} {pc dk c1 s1 : Nat} {L : List (Nat × Value)} {rest : List Value}
theorem p_met {l : Launch} {y : MethodName} {code : ByteArray} {maxL d9 : Nat} {ret : Option FieldType} {v : Option Value} (av : List Value) (Rn : String) (hy : plainName y.cls = true) (hyc : y.cls = Rn) (hav : (lg_sl av).length ≤ maxL)
    (walk : ∀ K : KT, kL K = l → kR K = rmC d9 0 0 → (kMe K).sig.returnType = ret → Kok K code maxL Rn → PU T n fi a b (kS K) → KQp K v → XJ K maxL (Wp K) 0 (lv_args 0 av) []) : Met l y (ws_ y code maxL ret) (rmC d9 0 0) (va_Pc av (PU T n fi a b)) (Qp v) 0 0 (fun _ => False) := by
  refine Met.ofW (cc := code) (maxL := maxL) (ret := ret) hy rfl ?_
  intro p e s m args below meth c s₁ B hml hv
  obtain ⟨rfl, hP⟩ := hv
  have hts := atoms_spec (ws := ws_ y code maxL ret) B.pre
  have hts : ∀ w ∈ lw_all, w.before _ s = true := fun w h => hts w (List.mem_cons_of_mem _ h)
  have hown : s.vm.findClass Rn = some m.cls := by rw [← hyc]; exact findClass_of_methodNamed B.named
  have h9 := lv_entry av (n := maxL) hav
  rw [lg_entry_eq]
  exact walk (p, l, e, rmC d9 0 0, s, m, av.toArray, below, meth, c, MQ below (Qp v) av.toArray s 0 0 (fun _ => False)) rfl rfl B.returns ⟨B.exec, B.bytes, hml, hown, hts, B.notSynchronized⟩ hP rfl s.heap [] 0 0 _ ⟨rfl, rfl, rfl, rfl⟩ h9
theorem p_iret {v : Int32} {ty : FieldType} (C : Kok K cc nL own) (hr : (kMe K).sig.returnType = some ty) (hn : narrow ty (.int v) = .int v) (hQ : KQp K (some (.int v))) (dd : decode cc pc = .ok (.ireturn, 1)) : XJ K nL (Wp K) pc L [.int v] := by
  intro H lo ce sl ls hw h9
  obtain ⟨rfl, rfl, rfl, rfl⟩ := hw
  unfold WK
  rw [hQ]
  exact W.zret C.1 C.2.1 hr hn (fun t ht hW => ⟨rfl, ht⟩) (fun q h => by cases h) dd (hlocks := C.2.2.2.2.2)
theorem p_vret (C : Kok K cc nL own) (hr : (kMe K).sig.returnType = none) (hQ : KQp K none) (dd : decode cc pc = .ok (.return_, 1)) : XJ K nL (Wp K) pc L [] := by
  intro H lo ce sl ls hw h9
  obtain ⟨rfl, rfl, rfl, rfl⟩ := hw
  unfold WK
  rw [hQ]
  exact W.vret C.1 C.2.1 hr (fun t ht hW => ⟨rfl, ht⟩) (fun q h => by cases h) dd (hlocks := C.2.2.2.2.2)
theorem p_str {H : Heap} {lo : List Loc} {ce sl : Nat} (B : PU T n fi a b (kS K)) (hw : Wp K H lo ce sl) : cStr T n fi a b H := by rw [hw.1]; exact B.1
theorem p_value {idx : Nat} (C : Kok K cc nL own) (B : PU T n fi a b (kS K)) (hlk : Cond.fieldLink own idx "java/lang/String" "value" "[B" ∈ lw_all) (dd : decode cc pc = .ok (.getfield idx, 3)) (kk : XJ K nL (Wp K) (pc + 3) L (.ref b :: rest)) : XJ K nL (Wp K) pc L (.ref a :: rest) := fun H lo ce sl ls hw h9 => va_get (C := RJ3) (T := TJ3) (N := 2) C.1 C.2.1 C.2.2.2.2.1 in_J3b C.2.2.2.1 B.2.1 (cP1 (p_str B hw).1) 0 rfl rfl 0 (by decide) (C.2.2.2.2.1 _ hlk) (fun _ h => h) rfl dd (kk H lo ce sl ls hw h9)
theorem p_coder {idx : Nat} (C : Kok K cc nL own) (B : PU T n fi a b (kS K)) (hlk : Cond.fieldLink own idx "java/lang/String" "coder" "B" ∈ lw_all) (dd : decode cc pc = .ok (.getfield idx, 3)) (kk : XJ K nL (Wp K) (pc + 3) L (.int 0 :: rest)) : XJ K nL (Wp K) pc L (.ref a :: rest) := fun H lo ce sl ls hw h9 => va_get (C := RJ3) (T := TJ3) (N := 2) C.1 C.2.1 C.2.2.2.2.1 in_J3b C.2.2.2.1 B.2.1 (cP1 (p_str B hw).1) 0 rfl rfl 1 (by decide) (C.2.2.2.2.1 _ hlk) (fun _ h => h) rfl dd (kk H lo ce sl ls hw h9)
theorem p_alen (C : Kok K cc nL own) (B : PU T n fi a b (kS K)) (dd : decode cc pc = .ok (.arraylength, 1)) (kk : XJ K nL (Wp K) (pc + 1) L (.int (Int32.ofNat n) :: rest)) : XJ K nL (Wp K) pc L (.ref b :: rest) := fun H lo ce sl ls hw h9 => va_alen (v := Int32.ofNat n) C.1 C.2.1 B.2.1 (cP1 (p_str B hw).2) 0 3 rfl rfl rfl dd (kk H lo ce sl ls hw h9)
theorem p_bald {i : Int32} (C : Kok K cc nL own) (B : PU T n fi a b (kS K)) (hin : vp_in i n) (dd : decode cc pc = .ok (.baload, 1)) (kk : XJ K nL (Wp K) (pc + 1) L (.int (fi i.toNatClampNeg) :: rest)) : XJ K nL (Wp K) pc L (.int i :: .ref b :: rest) := fun H lo ce sl ls hw h9 => va_bald C.1 C.2.1 B.2.1 (cP1 (p_str B hw).2) 0 3 rfl rfl hin dd (kk H lo ce sl ls hw h9)
theorem p_gZ {idx : Nat} (C : Kok K cc nL own) (B : PU T n fi a b (kS K)) (hq : Cond.fieldLink own idx "java/lang/String" "COMPACT_STRINGS" "Z" ∈ lw_all) (dd : decode cc pc = .ok (.getstatic idx, 3)) (kk : XJ K nL (Wp K) (pc + 3) L (.int 1 :: rest)) : XJ K nL (Wp K) pc L rest := fun H lo ce sl ls hw h9 => va_gets C.1 C.2.1 B.2.2.1 (by rw [hw.1, hw.2.1]; exact va_S.rf) C.2.2.2.1 (C.2.2.2.2.1 _ hq) (fun _ h => h) dd (kk H lo ce sl ls hw h9)
theorem p_gQ {idx : Nat} (C : Kok K cc nL own) (B : PU T n fi a b (kS K)) (hq : Cond.fieldLink own idx "jdk/internal/util/Preconditions" "SIOOBE_FORMATTER" "Ljava/util/function/BiFunction;" ∈ lw_all) (dd : decode cc pc = .ok (.getstatic idx, 3)) (kk : XJ K nL (Wp K) (pc + 3) L (.null :: rest)) (kk2 : ∀ t : Nat, XJ K nL (Wp K) (pc + 3) L (.ref t :: rest)) : XJ K nL (Wp K) pc L rest := by
  intro H lo ce sl ls hw h9
  rcases B.2.2.2.1 with h | ⟨t, h⟩
  · exact va_gets C.1 C.2.1 h (by rw [hw.1, hw.2.1]; exact va_S.rf) C.2.2.2.1 (C.2.2.2.2.1 _ hq) (fun _ h => h) dd (kk H lo ce sl ls hw h9)
  · exact va_gets C.1 C.2.1 h (by rw [hw.1, hw.2.1]; exact va_S.rf) C.2.2.2.1 (C.2.2.2.2.1 _ hq) (fun _ h => h) dd (kk2 t H lo ce sl ls hw h9)
theorem p_after {H : Heap} {lo : List Loc} {ce sl : Nat} {ls : Array Slot} {st0 : List Value} {v : Option Value} {av : Array Value} (hw : Wp K H lo ce sl) (h9 : lv_has ls nL L)
    (hr : va_Run (kP K) (kL K) (kE K) (kR K) (kS K) (kM K) (kA K) (kB K) (kMe K) (kC K) H lo ce sl 0 0 (F0 (kM K) pc ls st0) rest (Qp v av) (fun _ => False))
    (kk : XJ K nL (Wp K) (pc + 3) L (v.toList ++ rest)) : WK K H lo ce sl (F0 (kM K) pc ls st0) := by
  intro TT hT XX
  obtain ⟨v', st₀, t, T', L9, h0, X', hL, e1, e2, ⟨hv, hh⟩, st⟩ := hr TT hT XX
  cases hv
  obtain ⟨rfl, rfl, rfl, rfl⟩ := hw
  obtain ⟨t2, a1, b1⟩ := kk T'.heap [] 0 0 ls ⟨by rw [e1, hh, h0], rfl, rfl, rfl⟩ h9 T' rfl (Stand.forget (extra := L9) X' (fun q h => (hL q h).elim))
  exact ⟨t2, st t2 a1, b1⟩
theorem p_pre {av : List Value} {H : Heap} {lo : List Loc} {ce sl : Nat} (B : PU T n fi a b (kS K)) (hw : Wp K H lo ce sl) : ∀ U : State, U.heap = H → (kS K).WarmedH U.vm → va_Pc av (PU T n fi a b) av.toArray U := fun U hU hW => ⟨rfl, by rw [hU, hw.1]; exact B.1, va_K.moved hW.alike B.2.1, by rw [hU, hw.1]; exact SF.warm hW B.2.2⟩
theorem p_callV {y : MethodName} {code : ByteArray} {maxL idx d9 : Nat} {ret : Option FieldType} {v : Option Value} {st0 : List Value} (As : List Value) (n9 : Nat) (hna : As.length = n9) (C : Kok K cc nL own) (B : PU T n fi a b (kS K)) (dK : kR K = rmC dk 0 0) (hd : d9 + 1 ≤ dk) (hL : maxL ≤ 45)
    (good : GoodIn lw_all (wsV own idx "java/lang/String" y (ws_ y code maxL ret))) (hy : y.cls = "java/lang/String" ∧ y.cls ≠ "java/lang/invoke/MethodHandle" ∧ y.cls ≠ "java/lang/invoke/VarHandle" ∧ (parseMethodDescriptor y.desc).map (fun d => d.parameters.length) = some n9)
    (hM : Met (kL K) y (ws_ y code maxL ret) (rmC d9 0 0) (va_Pc (.ref a :: As) (PU T n fi a b)) (Qp v) 0 0 (fun _ => False)) (hst : st0 = As.reverse ++ .ref a :: rest) (hW : (rest.map fun v => v.category).sum ≤ 8) (dd : decode cc pc = .ok (.invokevirtual idx, 3)) (kk : XJ K nL (Wp K) (pc + 3) L (v.toList ++ rest)) : XJ K nL (Wp K) pc L st0 := by
  intro H lo ce sl ls hw h9
  have h0 := hw.2.2.1
  have h1 := hw.2.2.2
  exact p_after hw h9 (va_runV (C := "java/lang/String") (n := n9) ⟨C.1, C.2.1, C.2.2.1, C.2.2.2.1, C.2.2.2.2.1⟩ hM (cwV n9 C.2.2.2.2.1 good rfl rfl rfl hy (c_room dK hd hL)) ⟨p_blind, va_recv B.2.1 (cP1 (p_str B hw).1) (ci := 20) (q0 := 0) (q := (RJ3, TJ3, 2)) rfl rfl, p_pre B hw⟩ rfl hna h9.1 hst (lv_room hW) dd (by rw [h0, h1, dK]; exact ⟨Nat.le_refl _, Nat.le_refl _⟩)) kk
theorem p_callS {y : MethodName} {code : ByteArray} {maxL idx d9 : Nat} {ret : Option FieldType} {v : Option Value} {st0 : List Value} (As : List Value) (n9 : Nat) (hna : As.length = n9) (C : Kok K cc nL own) (B : PU T n fi a b (kS K)) (dK : kR K = rmC dk 0 0) (hd : d9 + 1 ≤ dk) (hL : maxL ≤ 45)
    (good : GoodIn lw_all (va_wsS own idx y (ws_ y code maxL ret))) (hy : y.cls ≠ "java/lang/invoke/MethodHandle" ∧ y.cls ≠ "java/lang/invoke/VarHandle" ∧ (parseMethodDescriptor y.desc).map (fun d => d.parameters.length) = some n9)
    (hM : Met (kL K) y (ws_ y code maxL ret) (rmC d9 0 0) (va_Pc As (PU T n fi a b)) (Qp v) 0 0 (fun _ => False)) (hst : st0 = As.reverse ++ rest) (hW : (rest.map fun v => v.category).sum ≤ 8) (dd : decode cc pc = .ok (.invokestatic idx, 3)) (kk : XJ K nL (Wp K) (pc + 3) L (v.toList ++ rest)) : XJ K nL (Wp K) pc L st0 := by
  intro H lo ce sl ls hw h9
  have h0 := hw.2.2.1
  have h1 := hw.2.2.2
  exact p_after hw h9 (va_runS (n := n9) ⟨C.1, C.2.1, C.2.2.1, C.2.2.2.1, C.2.2.2.2.1⟩ hM (va_cwS n9 C.2.2.2.2.1 good rfl rfl rfl hy (c_room dK hd hL)) ⟨p_blind, p_pre B hw⟩ rfl hna h9.1 hst (lv_room hW) dd (by rw [h0, h1, dK]; exact ⟨Nat.le_refl _, Nat.le_refl _⟩)) kk
end PS
section PM
variable {l : Launch} {T : CT} {n : Nat} {fi : Nat → Int32} {a b : Nat}
theorem met_J3_coder : Met l yJ3_coder (ws_ yJ3_coder cJ3_coder 1 (some .byte)) (rmC 1 0 0) (va_Pc [.ref a] (PU T n fi a b)) (Qp (some (.int 0))) 0 0 (fun _ => False) := p_met [.ref a] RJ3 (by decide) rfl (Nat.le_of_ble_eq_true rfl) (fun K hl dK hr C B hQ => by
  refine p_gZ C B q820 dJ3_coder_0 ?_
  refine x_if_eq (tgt := 13) C dJ3_coder_3 (by decide) (fun c => absurd c (by decide)) (fun c => ?_)
  refine x_aload_n (L := [(0, .ref a)]) C dJ3_coder_6 0 rfl ?_
  refine p_coder C B q1336 dJ3_coder_7 ?_
  refine x_goto (tgt := 14) C dJ3_coder_10 (by decide) ?_
  exact p_iret C hr rfl hQ dJ3_coder_14)
theorem met_J3_isLatin1 : Met l yJ3_isLatin1 (ws_ yJ3_isLatin1 cJ3_isLatin1 1 (some .boolean)) (rmC 1 0 0) (va_Pc [.ref a] (PU T n fi a b)) (Qp (some (.int 1))) 0 0 (fun _ => False) := p_met [.ref a] RJ3 (by decide) rfl (Nat.le_of_ble_eq_true rfl) (fun K hl dK hr C B hQ => by
  refine p_gZ C B q820 dJ3_isLatin1_0 ?_
  refine x_if_eq (tgt := 17) C dJ3_isLatin1_3 (by decide) (fun c => absurd c (by decide)) (fun c => ?_)
  refine x_aload_n (L := [(0, .ref a)]) C dJ3_isLatin1_6 0 rfl ?_
  refine p_coder C B q1336 dJ3_isLatin1_7 ?_
  refine x_if_ne (tgt := 17) C dJ3_isLatin1_10 (by decide) (fun c => absurd rfl c) (fun c => ?_)
  refine x_iconst (1 : Int32) C dJ3_isLatin1_13 (by decide) ?_
  refine x_goto (tgt := 18) C dJ3_isLatin1_14 (by decide) ?_
  exact p_iret C hr rfl hQ dJ3_isLatin1_18)
theorem met_J3_length : Met l yJ3_length (ws_ yJ3_length cJ3_length 1 (some .int)) (rmC 2 0 0) (va_Pc [.ref a] (PU T n fi a b)) (Qp (some (.int (Int32.ofNat n)))) 0 0 (fun _ => False) := p_met [.ref a] RJ3 (by decide) rfl (Nat.le_of_ble_eq_true rfl) (fun K hl dK hr C B hQ => by
  refine x_aload_n (L := [(0, .ref a)]) C dJ3_length_0 0 rfl ?_
  refine p_value C B q1335 dJ3_length_1 ?_
  refine p_alen C B dJ3_length_4 ?_
  refine x_aload_n C dJ3_length_5 0 rfl ?_
  refine p_callV (rest := [.int (Int32.ofNat n)]) (v := some (.int 0)) [] 0 rfl C B dK (Nat.le_of_ble_eq_true rfl) (Nat.le_of_ble_eq_true rfl) (lw_V q816 q817 q818 q134 q819) (by decide +kernel) met_J3_coder rfl (Nat.le_of_ble_eq_true rfl) dJ3_length_6 ?_
  refine x_ishr C dJ3_length_9 ?_
  refine x_topir (y := Int32.ofNat n) (sb_shr0 _).symm ?_
  exact p_iret C hr rfl hQ dJ3_length_10)
theorem met_J5_checkIndex {i m : Int32} {v2 : Value} (h0 : ¬ i < 0) (h1 : i < m) (hv : v2 = .null ∨ ∃ t, v2 = .ref t) : Met l yJ5_checkIndex (ws_ yJ5_checkIndex cJ5_checkIndex 3 (some .int)) (rmC 1 0 0) (va_Pc [.int i, .int m, v2] (PU T n fi a b)) (Qp (some (.int i))) 0 0 (fun _ => False) := by
  rcases hv with rfl | ⟨t, rfl⟩
  · exact p_met [.int i, .int m, .null] RJ5 (by decide) rfl (Nat.le_of_ble_eq_true rfl) (fun K hl dK hr C B hQ => by
      refine x_iload_n (L := [(0, .int i), (1, .int m), (2, .null)]) C dJ5_checkIndex_0 0 rfl ?_
      refine x_if_lt (tgt := 9) C dJ5_checkIndex_1 (by decide) (fun c => absurd c h0) (fun c => ?_)
      refine x_iload_n C dJ5_checkIndex_4 0 rfl ?_
      refine x_iload_n C dJ5_checkIndex_5 1 rfl ?_
      refine x_icmp_lt (tgt := 16) C dJ5_checkIndex_6 (by decide) (fun c => ?_) (fun c => absurd h1 c)
      refine x_iload_n C dJ5_checkIndex_16 0 rfl ?_
      exact p_iret C hr rfl hQ dJ5_checkIndex_17)
  · exact p_met [.int i, .int m, .ref t] RJ5 (by decide) rfl (Nat.le_of_ble_eq_true rfl) (fun K hl dK hr C B hQ => by
      refine x_iload_n (L := [(0, .int i), (1, .int m), (2, .ref t)]) C dJ5_checkIndex_0 0 rfl ?_
      refine x_if_lt (tgt := 9) C dJ5_checkIndex_1 (by decide) (fun c => absurd c h0) (fun c => ?_)
      refine x_iload_n C dJ5_checkIndex_4 0 rfl ?_
      refine x_iload_n C dJ5_checkIndex_5 1 rfl ?_
      refine x_icmp_lt (tgt := 16) C dJ5_checkIndex_6 (by decide) (fun c => ?_) (fun c => absurd h1 c)
      refine x_iload_n C dJ5_checkIndex_16 0 rfl ?_
      exact p_iret C hr rfl hQ dJ5_checkIndex_17)
theorem met_J3_checkIndex {i m : Int32} (h0 : ¬ i < 0) (h1 : i < m) : Met l yJ3_checkIndex (ws_ yJ3_checkIndex cJ3_checkIndex 2 none) (rmC 2 0 0) (va_Pc [.int i, .int m] (PU T n fi a b)) (Qp none) 0 0 (fun _ => False) := p_met [.int i, .int m] RJ3 (by decide) rfl (Nat.le_of_ble_eq_true rfl) (fun K hl dK hr C B hQ => by
  refine x_iload_n (L := [(0, .int i), (1, .int m)]) C dJ3_checkIndex_0 0 rfl ?_
  refine x_iload_n C dJ3_checkIndex_1 1 rfl ?_
  refine p_gQ C B q836 dJ3_checkIndex_2 ?_ (fun t => ?_)
  · refine p_callS (rest := []) (v := some (.int i)) [.int i, .int m, .null] 3 rfl C B dK (Nat.le_of_ble_eq_true rfl) (Nat.le_of_ble_eq_true rfl) (lw_S q838 q839 q136 q840) (by decide +kernel) (met_J5_checkIndex h0 h1 (Or.inl rfl)) rfl (Nat.le_of_ble_eq_true rfl) dJ3_checkIndex_5 ?_
    refine x_pop C dJ3_checkIndex_8 rfl ?_
    exact p_vret C hr hQ dJ3_checkIndex_9
  · refine p_callS (rest := []) (v := some (.int i)) [.int i, .int m, .ref t] 3 rfl C B dK (Nat.le_of_ble_eq_true rfl) (Nat.le_of_ble_eq_true rfl) (lw_S q838 q839 q136 q840) (by decide +kernel) (met_J5_checkIndex h0 h1 (Or.inr ⟨t, rfl⟩)) rfl (Nat.le_of_ble_eq_true rfl) dJ3_checkIndex_5 ?_
    refine x_pop C dJ3_checkIndex_8 rfl ?_
    exact p_vret C hr hQ dJ3_checkIndex_9)
/-- the character that a byte stands for -/
def j_chr (x : Int32) : Int32 := ((x &&& (255 : Int32)).toUInt32 % 65536).toInt32
theorem inb_lt {i : Int32} (h : vp_in i n) (hn : n < 2 ^ 31) : i < Int32.ofNat n := by
  obtain ⟨j, hj, rfl⟩ := vp_in_of h hn
  exact nI_lt hj hn
theorem met_J4_charAt {i : Int32} (h : vp_in i n) (hn : n < 2 ^ 31) : Met l yJ4_charAt (ws_ yJ4_charAt cJ4_charAt 2 (some .char)) (rmC 3 0 0) (va_Pc [.ref b, .int i] (PU T n fi a b)) (Qp (some (.int (j_chr (fi i.toNatClampNeg))))) 0 0 (fun _ => False) := p_met [.ref b, .int i] RJ4 (by decide) rfl (Nat.le_of_ble_eq_true rfl) (fun K hl dK hr C B hQ => by
  refine x_iload_n (L := [(0, .ref b), (1, .int i)]) C dJ4_charAt_0 1 rfl ?_
  refine x_aload_n C dJ4_charAt_1 0 rfl ?_
  refine p_alen C B dJ4_charAt_2 ?_
  refine p_callS (rest := []) (v := none) [.int i, .int (Int32.ofNat n)] 2 rfl C B dK (Nat.le_of_ble_eq_true rfl) (Nat.le_of_ble_eq_true rfl) (lw_S q833 q834 q134 q835) (by decide +kernel) (met_J3_checkIndex (fun q => h (Or.inl q)) (inb_lt h hn)) rfl (Nat.le_of_ble_eq_true rfl) dJ4_charAt_3 ?_
  refine x_aload_n C dJ4_charAt_6 0 rfl ?_
  refine x_iload_n C dJ4_charAt_7 1 rfl ?_
  refine p_bald C B h dJ4_charAt_8 ?_
  refine x_sipush (255 : Int32) C dJ4_charAt_9 (by decide) ?_
  refine x_iand C dJ4_charAt_12 ?_
  refine x_i2c C dJ4_charAt_13 ?_
  exact p_iret C hr (pk_nc _) hQ dJ4_charAt_14)
theorem met_J3_charAt {i : Int32} (h : vp_in i n) (hn : n < 2 ^ 31) : Met l yJ3_charAt (ws_ yJ3_charAt cJ3_charAt 2 (some .char)) (rmC 4 0 0) (va_Pc [.ref a, .int i] (PU T n fi a b)) (Qp (some (.int (j_chr (fi i.toNatClampNeg))))) 0 0 (fun _ => False) := p_met [.ref a, .int i] RJ3 (by decide) rfl (Nat.le_of_ble_eq_true rfl) (fun K hl dK hr C B hQ => by
  refine x_aload_n (L := [(0, .ref a), (1, .int i)]) C dJ3_charAt_0 0 rfl ?_
  refine p_callV (rest := []) (v := some (.int 1)) [] 0 rfl C B dK (Nat.le_of_ble_eq_true rfl) (Nat.le_of_ble_eq_true rfl) (lw_V q826 q827 q828 q134 q829) (by decide +kernel) met_J3_isLatin1 rfl (Nat.le_of_ble_eq_true rfl) dJ3_charAt_1 ?_
  refine x_if_eq (tgt := 16) C dJ3_charAt_4 (by decide) (fun c => absurd c (by decide)) (fun c => ?_)
  refine x_aload_n C dJ3_charAt_7 0 rfl ?_
  refine p_value C B q1335 dJ3_charAt_8 ?_
  refine x_iload_n C dJ3_charAt_11 1 rfl ?_
  refine p_callS (rest := []) (v := some (.int (j_chr (fi i.toNatClampNeg)))) [.ref b, .int i] 2 rfl C B dK (Nat.le_of_ble_eq_true rfl) (Nat.le_of_ble_eq_true rfl) (lw_S q830 q831 q135 q832) (by decide +kernel) (met_J4_charAt h hn) rfl (Nat.le_of_ble_eq_true rfl) dJ3_charAt_12 ?_
  exact p_iret C hr (pk_nc _) hQ dJ3_charAt_15)
end PM
section PC
variable {K : KT} {T : CT} {c0 s0 c1 s1 dk : Nat} {g : CG} {d : CD} {cc : ByteArray} {nL : Nat} {own : String} {pc : Nat} {L : List (Nat × Value)} {rest : List Value} {a : Nat}
/-- a text method called in the component's world -/
theorem c_callP {y : MethodName} {code : ByteArray} {maxL idx d9 : Nat} {ret : Option FieldType} {v : Option Value} {st0 : List Value} (As : List Value) (n9 : Nat) (hna : As.length = n9) (C : Kok K cc nL own) (B : CB K T) (hta : ht g a = 90) (dK : kR K = rmC dk c1 s1) (hd : d9 + 1 ≤ dk) (hL : maxL ≤ 45) (hcs : c0 + 0 ≤ c1 ∧ s0 + 0 ≤ s1)
    (good : GoodIn lw_all (wsV own idx "java/lang/String" y (ws_ y code maxL ret))) (hy : y.cls = "java/lang/String" ∧ y.cls ≠ "java/lang/invoke/MethodHandle" ∧ y.cls ≠ "java/lang/invoke/VarHandle" ∧ (parseMethodDescriptor y.desc).map (fun d => d.parameters.length) = some n9)
    (hM : ∀ b, Met (kL K) y (ws_ y code maxL ret) (rmC d9 0 0) (va_Pc (.ref a :: As) (PU T (hn g a) (hi d a) a b)) (Qp v) 0 0 (fun _ => False)) (hst : st0 = As.reverse ++ .ref a :: rest) (hW : (rest.map fun v => v.category).sum ≤ 8) (dd : decode cc pc = .ok (.invokevirtual idx, 3)) (kk : XJ K nL (Wc K T c0 s0 g d) (pc + 3) L (v.toList ++ rest)) : XJ K nL (Wc K T c0 s0 g d) pc L st0 := by
  intro H lo ce sl ls hw h9
  obtain ⟨b, hb, hs⟩ := cW_str hw.2.2.1 hta
  have hr := va_runV (C := "java/lang/String") (n := n9) (p := kP K) (l := kL K) (e := kE K) (below := kB K) (meth := kMe K) (locs := lo) (cells := ce) (slots := sl) (H := H) (rest := rest) (g := F0 (kM K) pc ls st0) ⟨C.1, C.2.1, C.2.2.1, C.2.2.2.1, C.2.2.2.2.1⟩ (hM b) (cwV n9 C.2.2.2.2.1 good rfl rfl rfl hy (c_room dK hd hL)) ⟨p_blind, va_recv B.1 (cP1 (T := T) (a := a) (H := H) hs.1) (ci := 20) (q0 := 0) (q := (RJ3, TJ3, 2)) rfl rfl, fun U hU hW => ⟨rfl, by rw [hU]; exact hs, va_K.moved hW.alike B.1, SF.warm hW (by rw [hU]; exact B.2.2.kept (fun q h1 h2 => hw.2.2.2.2.1 q h1 h2))⟩⟩ rfl hna h9.1 hst (lv_room hW) dd (c_cells hw dK hcs)
  intro TT hT XX
  obtain ⟨v', st₀, t, T', L9, h0, X', hL9, e1, e2, ⟨hv, hh⟩, st⟩ := hr TT hT XX
  cases hv
  obtain ⟨t2, a1, b1⟩ := kk T'.heap lo ce sl ls (by rw [e1, hh, h0]; exact hw) h9 T' rfl (Stand.forget (extra := L9) X' (fun q h => (hL9 q h).elim))
  exact ⟨t2, st t2 a1, b1⟩
theorem c_slen {idx : Nat} (C : Kok K cc nL own) (B : CB K T) (hta : ht g a = 90) (hlk : Cond.methodLink own idx yJ3_length ∈ lw_all) (dK : kR K = rmC dk c1 s1) (hd : 3 ≤ dk) (hcs : c0 + 0 ≤ c1 ∧ s0 + 0 ≤ s1) (hW : (rest.map fun v => v.category).sum ≤ 8) (dd : decode cc pc = .ok (.invokevirtual idx, 3)) (kk : XJ K nL (Wc K T c0 s0 g d) (pc + 3) L (.int (Int32.ofNat (hn g a)) :: rest)) : XJ K nL (Wc K T c0 s0 g d) pc L (.ref a :: rest) := c_callP (rest := rest) (v := some (.int (Int32.ofNat (hn g a)))) [] 0 rfl C B hta dK hd (Nat.le_of_ble_eq_true rfl) hcs (lw_V hlk q813 q814 q134 q815) (by decide +kernel) (fun b => met_J3_length) rfl hW dd kk
theorem c_schar {idx : Nat} {i : Int32} (C : Kok K cc nL own) (B : CB K T) (hta : ht g a = 90) (hin : vp_in i (hn g a)) (hn9 : hn g a < 2 ^ 31) (hlk : Cond.methodLink own idx yJ3_charAt ∈ lw_all) (dK : kR K = rmC dk c1 s1) (hd : 5 ≤ dk) (hcs : c0 + 0 ≤ c1 ∧ s0 + 0 ≤ s1) (hW : (rest.map fun v => v.category).sum ≤ 8) (dd : decode cc pc = .ok (.invokevirtual idx, 3)) (kk : XJ K nL (Wc K T c0 s0 g d) (pc + 3) L (.int (j_chr (hi d a i.toNatClampNeg)) :: rest)) : XJ K nL (Wc K T c0 s0 g d) pc L (.int i :: .ref a :: rest) := c_callP (rest := rest) (v := some (.int (j_chr (hi d a i.toNatClampNeg)))) [.int i] 1 rfl C B hta dK hd (Nat.le_of_ble_eq_true rfl) hcs (lw_V hlk q823 q824 q134 q825) (by decide +kernel) (fun b => met_J3_charAt hin hn9) rfl hW dd kk
end PC
