/-! CALLS AND ENDS in the component's world -/
def rmC (d c s : Nat) : Room := { frames := d, cells := c, slots := s, locals := 64 * d }
theorem c_blind {T : CT} {av : List Value} {g : CG} {d : CD} : FrameBlind (va_Pc av (CU T g d)) := fun a U g9 mk q => by
  obtain ⟨q0, qP, qK, qN, qS⟩ := q
  exact ⟨q0, qP, va_K.moved (u := U) (U := U.calling g9 mk a) (Vm.Alike.refl U.vm) qK, NWo.same (u := U) (U := U.calling g9 mk a) rfl qN, SF.same (u := U) (U := U.calling g9 mk a) rfl qS⟩
section CC
variable {K : KT} {T : CT} {c0 s0 c1 s1 dk : Nat} {g : CG} {d : CD} {cc : ByteArray} {nL : Nat} {own : String} {pc : Nat} {L : List (Nat × Value)} {rest : List Value} {a : Nat}
theorem c_iret {v : Int32} (C : Kok K cc nL own) (hr : (kMe K).sig.returnType = some .int) (hQ : KQc K T (some (.int v)) c0 s0 g d) (dd : decode cc pc = .ok (.ireturn, 1)) : XJ K nL (Wc K T c0 s0 g d) pc L [.int v] := by
  intro H lo ce sl ls hw h9
  obtain ⟨rfl, rfl, hP, hS⟩ := hw
  unfold WK
  rw [hQ]
  exact W.iret C.1 C.2.1 hr (fun t ht hW => ⟨rfl, by rw [ht]; exact hP, hS.F ht⟩) hS.2.2 dd (hlocks := C.2.2.2.2.2)
theorem c_zret {v : Int32} (C : Kok K cc nL own) (hr : (kMe K).sig.returnType = some .boolean) (hn : v = 0 ∨ v = 1) (hQ : KQc K T (some (.int v)) c0 s0 g d) (dd : decode cc pc = .ok (.ireturn, 1)) : XJ K nL (Wc K T c0 s0 g d) pc L [.int v] := by
  intro H lo ce sl ls hw h9
  obtain ⟨rfl, rfl, hP, hS⟩ := hw
  unfold WK
  rw [hQ]
  exact W.zret C.1 C.2.1 hr (by rcases hn with rfl | rfl <;> rfl) (fun t ht hW => ⟨rfl, by rw [ht]; exact hP, hS.F ht⟩) hS.2.2 dd (hlocks := C.2.2.2.2.2)
theorem c_lret {v : Int64} (C : Kok K cc nL own) (hr : (kMe K).sig.returnType = some .long) (hQ : KQc K T (some (.long v)) c0 s0 g d) (dd : decode cc pc = .ok (.lreturn, 1)) : XJ K nL (Wc K T c0 s0 g d) pc L [.long v] := by
  intro H lo ce sl ls hw h9
  obtain ⟨rfl, rfl, hP, hS⟩ := hw
  unfold WK
  rw [hQ]
  exact W.lret C.1 C.2.1 hr (fun t ht hW => ⟨rfl, by rw [ht]; exact hP, hS.F ht⟩) hS.2.2 dd (hlocks := C.2.2.2.2.2)
theorem c_vret (C : Kok K cc nL own) (hr : (kMe K).sig.returnType = none) (hQ : KQc K T none c0 s0 g d) (dd : decode cc pc = .ok (.return_, 1)) : XJ K nL (Wc K T c0 s0 g d) pc L [] := by
  intro H lo ce sl ls hw h9
  obtain ⟨rfl, rfl, hP, hS⟩ := hw
  unfold WK
  rw [hQ]
  exact W.vret C.1 C.2.1 hr (fun t ht hW => ⟨rfl, by rw [ht]; exact hP, hS.F ht⟩) hS.2.2 dd (hlocks := C.2.2.2.2.2)
theorem c_aret {v : Nat} {rt : FieldType} (C : Kok K cc nL own) (hr : (kMe K).sig.returnType = some rt) (hrt : (∃ n, rt = .object n) ∨ ∃ t, rt = .array t) (hQ : KQc K T (some (.ref v)) c0 s0 g d) (dd : decode cc pc = .ok (.areturn, 1)) : XJ K nL (Wc K T c0 s0 g d) pc L [.ref v] := by
  intro H lo ce sl ls hw h9
  obtain ⟨rfl, rfl, hP, hS⟩ := hw
  unfold WK
  rw [hQ]
  exact W.aret C.1 C.2.1 hr hrt (Or.inr ⟨_, rfl⟩) (fun t ht hW => ⟨rfl, by rw [ht]; exact hP, hS.F ht⟩) hS.2.2 dd (hlocks := C.2.2.2.2.2)
theorem c_after {H : Heap} {lo : List Loc} {ce sl mc ms : Nat} {ls : Array Slot} {st0 : List Value} {v : Option Value} {g' : CG} {d' : CD} {av : Array Value} (hw : Wc K T c0 s0 g d H lo ce sl) (h9 : lv_has ls nL L)
    (hr : va_Run (kP K) (kL K) (kE K) (kR K) (kS K) (kM K) (kA K) (kB K) (kMe K) (kC K) H lo ce sl mc ms (F0 (kM K) pc ls st0) rest (Qc T v g' d' av) (cA T))
    (kk : XJ K nL (Wc K T (c0 + mc) (s0 + ms) g' d') (pc + 3) L (v.toList ++ rest)) : WK K H lo ce sl (F0 (kM K) pc ls st0) := by
  intro TT hT XX
  obtain ⟨v', st₀, t, T', L9, h0, X', hL, e1, e2, ⟨hv, hP', hF⟩, st⟩ := hr TT hT XX
  cases hv
  obtain ⟨rfl, rfl, hP, hS⟩ := hw
  have hz := hF.1
  have hk := hF.2
  rw [h0] at hz hk
  obtain ⟨t2, a1, b1⟩ := kk T'.heap (lo ++ L9) _ _ ls ⟨rfl, rfl, by rw [e1]; exact hP', ⟨Nat.le_trans hS.1 (by rw [e1]; exact hz), fun q h1 h2 => by rw [e1, hk q (Nat.lt_of_lt_of_le h1 hS.1) h2]; exact hS.2.1 q h1 h2, fun q hq => by
      rcases List.mem_append.mp hq with h | h
      · exact hS.2.2 q h
      · exact hL q h⟩⟩ h9 T' rfl X'
  exact ⟨t2, st t2 a1, b1⟩
theorem c_pre {av : List Value} {H : Heap} {lo : List Loc} {ce sl : Nat} (B : CB K T) (hw : Wc K T c0 s0 g d H lo ce sl) : ∀ U : State, U.heap = H → (kS K).WarmedH U.vm → va_Pc av (CU T g d) av.toArray U := fun U hU hW => ⟨rfl, by rw [hU]; exact hw.2.2.1, va_K.moved hW.alike B.1, NWo.warm hW B.2.1, SF.warm hW (by rw [hU]; exact B.2.2.kept (fun q h1 h2 => hw.2.2.2.2.1 q h1 h2))⟩
theorem c_rcv {t N : Nat} {Cn : String} {Tt : u_T} {H : Heap} {lo : List Loc} {ce sl : Nat} (B : CB K T) (hw : Wc K T c0 s0 g d H lo ce sl) (hta : ht g a = t) (h0 : t ≠ 0) (h90 : t < 90) (hc : ccl[t - 1]? = some (Cn, Tt, N)) : ∃ cell : Cell, H[a]? = some cell ∧ cell.vm.isStatics = false ∧ (kS K).vm.findClass Cn = some cell.cls := va_recv B.1 (cP1 (cW_obj hw.2.2.1 hta h0 h90)) (ci := t - 1) (q0 := 0) (q := (Cn, Tt, N)) hc rfl
theorem c_room {d9 mc ms maxL : Nat} (dK : kR K = rmC dk c1 s1) (hd : d9 + 1 ≤ dk) (hL : maxL ≤ 45) : (rmC d9 mc ms).frames + 1 ≤ (kR K).frames ∧ 8 + (maxL + 11) + (rmC d9 mc ms).locals ≤ (kR K).locals := by
  rw [dK]; simp only [rmC]; omega
theorem c_cells {mc ms : Nat} {H : Heap} {lo : List Loc} {ce sl : Nat} (hw : Wc K T c0 s0 g d H lo ce sl) (dK : kR K = rmC dk c1 s1) (hcs : c0 + mc ≤ c1 ∧ s0 + ms ≤ s1) : ce + mc ≤ (kR K).cells ∧ sl + ms ≤ (kR K).slots := by
  rw [hw.1, hw.2.1, dK]; exact hcs
/-- a call through an object, by its own link -/
theorem c_callV {y : MethodName} {code : ByteArray} {maxL idx d9 mc ms t N : Nat} {Cn : String} {Tt : u_T} {ret : Option FieldType} {v : Option Value} {g' : CG} {d' : CD} {st0 : List Value} (As : List Value) (n9 : Nat) (hna : As.length = n9) (C : Kok K cc nL own) (B : CB K T) (hta : ht g a = t) (h0 : t ≠ 0) (h90 : t < 90) (hc : ccl[t - 1]? = some (Cn, Tt, N)) (dK : kR K = rmC dk c1 s1) (hd : d9 + 1 ≤ dk) (hL : maxL ≤ 45) (hcs : c0 + mc ≤ c1 ∧ s0 + ms ≤ s1)
    (good : GoodIn lw_all (wsV own idx Cn y (ws_ y code maxL ret))) (hy : y.cls = Cn ∧ y.cls ≠ "java/lang/invoke/MethodHandle" ∧ y.cls ≠ "java/lang/invoke/VarHandle" ∧ (parseMethodDescriptor y.desc).map (fun d => d.parameters.length) = some n9)
    (hM : Met (kL K) y (ws_ y code maxL ret) (rmC d9 mc ms) (va_Pc (.ref a :: As) (CU T g d)) (Qc T v g' d') mc ms (cA T)) (hst : st0 = As.reverse ++ .ref a :: rest) (hW : (rest.map fun v => v.category).sum ≤ 8) (dd : decode cc pc = .ok (.invokevirtual idx, 3)) (kk : XJ K nL (Wc K T (c0 + mc) (s0 + ms) g' d') (pc + 3) L (v.toList ++ rest)) : XJ K nL (Wc K T c0 s0 g d) pc L st0 := by
  intro H lo ce sl ls hw h9
  exact c_after hw h9 (va_runV (C := Cn) (n := n9) ⟨C.1, C.2.1, C.2.2.1, C.2.2.2.1, C.2.2.2.2.1⟩ hM (cwV n9 C.2.2.2.2.1 good rfl rfl rfl hy (c_room dK hd hL)) ⟨c_blind, c_rcv B hw hta h0 h90 hc, c_pre B hw⟩ rfl hna h9.1 hst (lv_room hW) dd (c_cells hw dK hcs)) kk
theorem c_callVN {y : MethodName} {code : ByteArray} {maxL idx d9 mc ms t N : Nat} {Cn host : String} {Tt : u_T} {ret : Option FieldType} {v : Option Value} {g' : CG} {d' : CD} {st0 : List Value} (As : List Value) (n9 : Nat) (hna : As.length = n9) (C : Kok K cc nL own) (B : CB K T) (hta : ht g a = t) (h0 : t ≠ 0) (h90 : t < 90) (hc : ccl[t - 1]? = some (Cn, Tt, N)) (dK : kR K = rmC dk c1 s1) (hd : d9 + 1 ≤ dk) (hL : maxL ≤ 45) (hcs : c0 + mc ≤ c1 ∧ s0 + ms ≤ s1)
    (good : GoodIn lw_all (ws_ y code maxL ret)) (hlk : Cond.methodLinkNest own idx y host ∈ lw_tbl) (hin : Cond.instanceMethod y ∈ lw_all) (hse : Cond.selects Cn y y ∈ lw_all) (hini : Cond.initialized y.cls ∈ lw_all) (hy : y.cls ≠ "java/lang/invoke/MethodHandle" ∧ y.cls ≠ "java/lang/invoke/VarHandle" ∧ (parseMethodDescriptor y.desc).map (fun d => d.parameters.length) = some n9)
    (hM : Met (kL K) y (ws_ y code maxL ret) (rmC d9 mc ms) (va_Pc (.ref a :: As) (CU T g d)) (Qc T v g' d') mc ms (cA T)) (hst : st0 = As.reverse ++ .ref a :: rest) (hW : (rest.map fun v => v.category).sum ≤ 8) (dd : decode cc pc = .ok (.invokevirtual idx, 3)) (kk : XJ K nL (Wc K T (c0 + mc) (s0 + ms) g' d') (pc + 3) L (v.toList ++ rest)) : XJ K nL (Wc K T c0 s0 g d) pc L st0 := by
  intro H lo ce sl ls hw h9
  exact c_after hw h9 (va_runVN (C := Cn) (n := n9) ⟨C.1, C.2.1, C.2.2.1, C.2.2.2.1, C.2.2.2.2.1⟩ hM ⟨va_cnB n9 C.2.2.2.2.1 good rfl rfl rfl (B.2.1.1 _ (nw_in hlk rfl)) (C.2.2.2.2.1 _ hini) hy (c_room dK hd hL), C.2.2.2.2.1 _ hin, C.2.2.2.2.1 _ hse⟩ ⟨c_blind, c_rcv B hw hta h0 h90 hc, c_pre B hw⟩ rfl hna h9.1 hst (lv_room hW) dd (c_cells hw dK hcs)) kk
theorem c_callS {y : MethodName} {code : ByteArray} {maxL idx d9 mc ms : Nat} {ret : Option FieldType} {v : Option Value} {g' : CG} {d' : CD} {st0 : List Value} (As : List Value) (n9 : Nat) (hna : As.length = n9) (C : Kok K cc nL own) (B : CB K T) (dK : kR K = rmC dk c1 s1) (hd : d9 + 1 ≤ dk) (hL : maxL ≤ 45) (hcs : c0 + mc ≤ c1 ∧ s0 + ms ≤ s1)
    (good : GoodIn lw_all (va_wsS own idx y (ws_ y code maxL ret))) (hy : y.cls ≠ "java/lang/invoke/MethodHandle" ∧ y.cls ≠ "java/lang/invoke/VarHandle" ∧ (parseMethodDescriptor y.desc).map (fun d => d.parameters.length) = some n9)
    (hM : Met (kL K) y (ws_ y code maxL ret) (rmC d9 mc ms) (va_Pc As (CU T g d)) (Qc T v g' d') mc ms (cA T)) (hst : st0 = As.reverse ++ rest) (hW : (rest.map fun v => v.category).sum ≤ 8) (dd : decode cc pc = .ok (.invokestatic idx, 3)) (kk : XJ K nL (Wc K T (c0 + mc) (s0 + ms) g' d') (pc + 3) L (v.toList ++ rest)) : XJ K nL (Wc K T c0 s0 g d) pc L st0 := by
  intro H lo ce sl ls hw h9
  exact c_after hw h9 (va_runS (n := n9) ⟨C.1, C.2.1, C.2.2.1, C.2.2.2.1, C.2.2.2.2.1⟩ hM (va_cwS n9 C.2.2.2.2.1 good rfl rfl rfl hy (c_room dK hd hL)) ⟨c_blind, c_pre B hw⟩ rfl hna h9.1 hst (lv_room hW) dd (c_cells hw dK hcs)) kk
theorem c_callSN {y : MethodName} {code : ByteArray} {maxL idx d9 mc ms : Nat} {host : String} {ret : Option FieldType} {v : Option Value} {g' : CG} {d' : CD} {st0 : List Value} (As : List Value) (n9 : Nat) (hna : As.length = n9) (C : Kok K cc nL own) (B : CB K T) (dK : kR K = rmC dk c1 s1) (hd : d9 + 1 ≤ dk) (hL : maxL ≤ 45) (hcs : c0 + mc ≤ c1 ∧ s0 + ms ≤ s1)
    (good : GoodIn lw_all (ws_ y code maxL ret)) (hlk : Cond.methodLinkNest own idx y host ∈ lw_tbl) (hst9 : Cond.static y ∈ lw_all) (hini : Cond.initialized y.cls ∈ lw_all) (hy : y.cls ≠ "java/lang/invoke/MethodHandle" ∧ y.cls ≠ "java/lang/invoke/VarHandle" ∧ (parseMethodDescriptor y.desc).map (fun d => d.parameters.length) = some n9)
    (hM : Met (kL K) y (ws_ y code maxL ret) (rmC d9 mc ms) (va_Pc As (CU T g d)) (Qc T v g' d') mc ms (cA T)) (hst : st0 = As.reverse ++ rest) (hW : (rest.map fun v => v.category).sum ≤ 8) (dd : decode cc pc = .ok (.invokestatic idx, 3)) (kk : XJ K nL (Wc K T (c0 + mc) (s0 + ms) g' d') (pc + 3) L (v.toList ++ rest)) : XJ K nL (Wc K T c0 s0 g d) pc L st0 := by
  intro H lo ce sl ls hw h9
  exact c_after hw h9 (va_runSN (n := n9) ⟨C.1, C.2.1, C.2.2.1, C.2.2.2.1, C.2.2.2.2.1⟩ hM ⟨va_cnB n9 C.2.2.2.2.1 good rfl rfl rfl (B.2.1.1 _ (nw_in hlk rfl)) (C.2.2.2.2.1 _ hini) hy (c_room dK hd hL), C.2.2.2.2.1 _ hst9, trivial⟩ ⟨c_blind, c_pre B hw⟩ rfl hna h9.1 hst (lv_room hW) dd (c_cells hw dK hcs)) kk
/-- a call of a method of Reader, through any reader -/
theorem c_callU {x y : MethodName} {code : ByteArray} {maxL idx d9 mc ms t N : Nat} {Cn owner : String} {Tt : u_T} {ret : Option FieldType} {v : Option Value} {g' : CG} {d' : CD} {st0 : List Value} (As : List Value) (n9 : Nat) (hna : As.length = n9) (C : Kok K cc nL own) (B : CB K T) (hta : ht g a = t) (h0 : t ≠ 0) (h90 : t < 90) (hc : ccl[t - 1]? = some (Cn, Tt, N)) (dK : kR K = rmC dk c1 s1) (hd : d9 + 1 ≤ dk) (hL : maxL ≤ 45) (hcs : c0 + mc ≤ c1 ∧ s0 + ms ≤ s1)
    (hcd : Cond.code y code maxL ret ∈ lw_all) (hlk : Cond.methodLink own idx x ∈ lw_all) (hsm : Cond.sameMethod x.cls owner x.name x.desc ∈ lw_all) (hse : (Cond.selects Cn x y).before (kA K) (kS K) = true) (hin : Cond.instanceMethod y ∈ lw_all) (hini : Cond.initialized y.cls ∈ lw_all) (hyx : y = ⟨owner, x.name, x.desc⟩)
    (hy : owner ≠ "java/lang/invoke/MethodHandle" ∧ owner ≠ "java/lang/invoke/VarHandle" ∧ (parseMethodDescriptor x.desc).map (fun d => d.parameters.length) = some n9)
    (hM : Met (kL K) y (ws_ y code maxL ret) (rmC d9 mc ms) (va_Pc (.ref a :: As) (CU T g d)) (Qc T v g' d') mc ms (cA T)) (hst : st0 = As.reverse ++ .ref a :: rest) (hW : (rest.map fun v => v.category).sum ≤ 8) (dd : decode cc pc = .ok (.invokevirtual idx, 3)) (kk : XJ K nL (Wc K T (c0 + mc) (s0 + ms) g' d') (pc + 3) L (v.toList ++ rest)) : XJ K nL (Wc K T c0 s0 g d) pc L st0 := by
  intro H lo ce sl ls hw h9
  have hts := C.2.2.2.2.1
  have hR := c_room (mc := mc) (ms := ms) dK hd hL
  have cw : va_CU (kR K) (kS K) (kA K) own Cn owner idx x y code maxL ret (ws_ y code maxL ret) (rmC d9 mc ms) mc ms n9 :=
    ⟨⟨rfl, rfl, hR.1, hR.2, pay_in hts (lw_meth hcd), List.mem_cons_self⟩, hts _ hcd, hts _ hini, ⟨hy.1, hy.2.1⟩, fun sig h => by
      have h2 := hy.2.2
      rw [h] at h2
      exact (Option.some.inj h2).symm, hts _ hlk, hts _ hsm, by rw [← hyx]; exact va_Decl.of (hts _ hin) (hts _ hcd), hse, hts _ hin⟩
  exact c_after hw h9 (va_runU (C := Cn) (n := n9) ⟨C.1, C.2.1, C.2.2.1, C.2.2.2.1, C.2.2.2.2.1⟩ hM cw ⟨c_blind, c_rcv B hw hta h0 h90 hc, c_pre B hw⟩ rfl hna h9.1 hst (lv_room hW) dd (c_cells hw dK hcs)) kk
/-- a contract out of a walk -/
theorem c_met {l : Launch} {y : MethodName} {code : ByteArray} {maxL d9 mc ms : Nat} {ret : Option FieldType} {v : Option Value} {g' : CG} {d' : CD} (av : List Value) (Rn : String) (hy : plainName y.cls = true) (hyc : y.cls = Rn) (hav : (lg_sl av).length ≤ maxL)
    (walk : ∀ K : KT, kL K = l → kR K = rmC d9 mc ms → (kMe K).sig.returnType = ret → Kok K code maxL Rn → CB K T → KQc K T v mc ms g' d' → XJ K maxL (Wc K T 0 0 g d) 0 (lv_args 0 av) []) : Met l y (ws_ y code maxL ret) (rmC d9 mc ms) (va_Pc av (CU T g d)) (Qc T v g' d') mc ms (cA T) := by
  refine Met.ofW (cc := code) (maxL := maxL) (ret := ret) hy rfl ?_
  intro p e s m args below meth c s₁ B hml hv
  obtain ⟨rfl, hP, hK, hN, hF⟩ := hv
  have hts := atoms_spec (ws := ws_ y code maxL ret) B.pre
  have hts : ∀ w ∈ lw_all, w.before _ s = true := fun w h => hts w (List.mem_cons_of_mem _ h)
  have hown : s.vm.findClass Rn = some m.cls := by rw [← hyc]; exact findClass_of_methodNamed B.named
  have h9 := lv_entry av (n := maxL) hav
  rw [lg_entry_eq]
  exact walk (p, l, e, rmC d9 mc ms, s, m, av.toArray, below, meth, c, MQ below (Qc T v g' d') av.toArray s mc ms (cA T)) rfl rfl B.returns ⟨B.exec, B.bytes, hml, hown, hts, B.notSynchronized⟩ ⟨hK, hN, hF⟩ rfl s.heap [] 0 0 _ ⟨rfl, rfl, hP, va_S.rf⟩ h9
theorem ca_len {t : Nat} {v : Int32} (C : Kok K cc nL own) (B : CB K T) (hta : ht g a = t) (h100 : t = 100 ∨ t = 109 ∨ t = 103) (hv : Int32.ofNat (hn g a) = v) (dd : decode cc pc = .ok (.arraylength, 1)) (kk : XJ K nL (Wc K T c0 s0 g d) (pc + 1) L (.int v :: rest)) : XJ K nL (Wc K T c0 s0 g d) pc L (.ref a :: rest) := by
  intro H lo ce sl ls hw h9
  rcases h100 with rfl | rfl | rfl
  · exact va_alen (v := v) C.1 C.2.1 B.1 (cP1 (cW_arr hw.2.2.1 hta (by decide) (by decide) (by decide))) 0 0 rfl rfl hv dd (kk H lo ce sl ls hw h9)
  · exact va_alen (v := v) C.1 C.2.1 B.1 (cP1 (cW_arq hw.2.2.1 hta (by decide))) 0 9 rfl rfl hv dd (kk H lo ce sl ls hw h9)
  · exact va_alen (v := v) C.1 C.2.1 B.1 (cP1 (cW_arr hw.2.2.1 hta (by decide) (by decide) (by decide))) 0 3 rfl rfl hv dd (kk H lo ce sl ls hw h9)
def j_max (x y : Int32) : Int32 := if x < y then y else x
def j_min (x y : Int32) : Int32 := if y < x then y else x
def j_abs (x : Int32) : Int32 := if 0 ≤ x then x else 0 - x
theorem c_mmax {idx : Nat} {x y : Int32} (C : Kok K cc nL own) (hlk : Cond.methodLink own idx Lib.Math.max.name ∈ lw_all) (dK : kR K = rmC dk c1 s1) (hd : 1 ≤ dk) (hcs : c0 + 0 ≤ c1 ∧ s0 + 0 ≤ s1) (hW : (rest.map fun v => v.category).sum ≤ 8) (dd : decode cc pc = .ok (.invokestatic idx, 3)) (kk : XJ K nL (Wc K T c0 s0 g d) (pc + 3) L (.int (j_max x y) :: rest)) : XJ K nL (Wc K T c0 s0 g d) pc L (.int y :: .int x :: rest) := fun H lo ce sl ls hw h9 => va_mmax C.1 C.2.1 (by rw [C.2.2.1]; exact h9.1.symm) C.2.2.2.1 (C.2.2.2.2.1 _ hlk) (C.2.2.2.2.1 _ q1132) (C.2.2.2.2.1 _ q141) (C.2.2.2.2.1 _ q1133) (by rw [dK]; exact hd) (by rw [dK]; show _ ≤ 64 * dk; omega) (c_cells (mc := 0) (ms := 0) hw dK hcs).1 (c_cells (mc := 0) (ms := 0) hw dK hcs).2 dd (kk H lo ce sl ls hw h9)
theorem c_mmin {idx : Nat} {x y : Int32} (C : Kok K cc nL own) (hlk : Cond.methodLink own idx Lib.Math.min.name ∈ lw_all) (dK : kR K = rmC dk c1 s1) (hd : 1 ≤ dk) (hcs : c0 + 0 ≤ c1 ∧ s0 + 0 ≤ s1) (hW : (rest.map fun v => v.category).sum ≤ 8) (dd : decode cc pc = .ok (.invokestatic idx, 3)) (kk : XJ K nL (Wc K T c0 s0 g d) (pc + 3) L (.int (j_min x y) :: rest)) : XJ K nL (Wc K T c0 s0 g d) pc L (.int y :: .int x :: rest) := fun H lo ce sl ls hw h9 => va_mmin C.1 C.2.1 (by rw [C.2.2.1]; exact h9.1.symm) C.2.2.2.1 (C.2.2.2.2.1 _ hlk) (C.2.2.2.2.1 _ q1119) (C.2.2.2.2.1 _ q141) (C.2.2.2.2.1 _ q1120) (by rw [dK]; exact hd) (by rw [dK]; show _ ≤ 64 * dk; omega) (c_cells (mc := 0) (ms := 0) hw dK hcs).1 (c_cells (mc := 0) (ms := 0) hw dK hcs).2 dd (kk H lo ce sl ls hw h9)
theorem c_mabs {idx : Nat} {x : Int32} (C : Kok K cc nL own) (hlk : Cond.methodLink own idx Lib.Math.abs.name ∈ lw_all) (dK : kR K = rmC dk c1 s1) (hd : 1 ≤ dk) (hcs : c0 + 0 ≤ c1 ∧ s0 + 0 ≤ s1) (hW : (rest.map fun v => v.category).sum ≤ 8) (dd : decode cc pc = .ok (.invokestatic idx, 3)) (kk : XJ K nL (Wc K T c0 s0 g d) (pc + 3) L (.int (j_abs x) :: rest)) : XJ K nL (Wc K T c0 s0 g d) pc L (.int x :: rest) := fun H lo ce sl ls hw h9 => va_mabs C.1 C.2.1 (by rw [C.2.2.1]; exact h9.1.symm) C.2.2.2.1 (C.2.2.2.2.1 _ hlk) (C.2.2.2.2.1 _ q1241) (C.2.2.2.2.1 _ q141) (C.2.2.2.2.1 _ q1242) (by rw [dK]; exact hd) (by rw [dK]; show _ ≤ 64 * dk; omega) (c_cells (mc := 0) (ms := 0) hw dK hcs).1 (c_cells (mc := 0) (ms := 0) hw dK hcs).2 dd (kk H lo ce sl ls hw h9)
/-- System.arraycopy of ints -/
def cpok (sp dp n : Int32) (n0 n1 : Nat) : Bool := decide (¬ sp < 0) && decide (¬ dp < 0) && decide (¬ n < 0) && decide (sp.toNatClampNeg + n.toNatClampNeg ≤ n0) && decide (dp.toNatClampNeg + n.toNatClampNeg ≤ n1)
def wa (d : CD) (a : Nat) (f : Nat → Int32) : CD := (fun b => if b = a then f else d.1 b, d.2)
theorem wa_at {d : CD} {a : Nat} {f : Nat → Int32} : hi (wa d a f) a = f := by funext j; simp [hi, wa]
theorem wa_ne {d : CD} {a b : Nat} {f : Nat → Int32} (h : b ≠ a) : hi (wa d a f) b = hi d b := by funext j; simp [hi, wa, h]
theorem c_copyi {a0 idx : Nat} {sp dp n : Int32} (C : Kok K cc nL own) (B : CB K T) (hlk : Cond.methodLink own idx arraycopyName ∈ lw_all) (hnat : Cond.native arraycopyName ∈ lw_all) (hstat : Cond.static arraycopyName ∈ lw_all) (hini : Cond.initialized "java/lang/System" ∈ lw_all) (h0 : ht g a0 = 100) (h1 : ht g a = 100) (ok : cpok sp dp n (hn g a0) (hn g a) = true) (dK : kR K = rmC dk c1 s1) (hd : 1 ≤ dk) (hW : (rest.map fun v => v.category).sum ≤ 8) (dd : decode cc pc = .ok (.invokestatic idx, 3))
    (kk : XJ K nL (Wc K T c0 s0 g (wa d a (va_cpy (hi d a0) (hi d a) sp.toNatClampNeg dp.toNatClampNeg n.toNatClampNeg))) (pc + 3) L rest) : XJ K nL (Wc K T c0 s0 g d) pc L (.int n :: .int dp :: .ref a :: .int sp :: .ref a0 :: rest) := by
  intro H lo ce sl ls hw h9
  unfold cpok at ok
  simp only [Bool.and_eq_true, decide_eq_true_eq] at ok
  obtain ⟨⟨⟨⟨k1, k2⟩, k3⟩, k4⟩, k5⟩ := ok
  have nn : ∀ z : Int32, ¬ z < 0 → z.toInt = (z.toNatClampNeg : Int) := by
    intro z hz
    have hz0 : (0 : Int) ≤ z.toInt := by
      have := Int32.not_lt.mp hz
      simpa using Int32.le_iff_toInt_le.mp this
    show z.toInt = ((z.toInt.toNat : Nat) : Int)
    omega
  have hc0 : H[a0]? = some (vp_cell (tA T 0) (hn g a0, .inl (hi d a0))) := cW_arr hw.2.2.1 h0 (by decide) (by decide) (by decide)
  have hc1 : H[a]? = some (vp_cell (tA T 0) (hn g a, .inl (hi d a))) := cW_arr hw.2.2.1 h1 (by decide) (by decide) (by decide)
  have hfw : nativeFrameWords "java/lang/System" "arraycopy" 5 + 11 ≤ 56 := by decide
  intro T9 hT X
  obtain ⟨-, k0, hk0, cm0, hkk0⟩ := (B.1.2 0 _ rfl).1 (hn g a0) (fun j => .int (hi d a0 j))
  obtain ⟨-, k9, hk9, cm9, hkk9⟩ := (B.1.2 0 _ rfl).1 (hn g a) (fun j => .int (hi d a j))
  obtain ⟨vm', X', step⟩ := X.arraycopy C.1 C.2.2.2.1 (C.2.2.2.2.1 _ hlk) (C.2.2.2.2.1 _ hnat) (C.2.2.2.2.1 _ hstat) (C.2.2.2.2.1 _ hini) (src := a0) (dst := a) (cs := vp_cell (tA T 0) (hn g a0, .inl (hi d a0))) (cd := vp_cell (tA T 0) (hn g a, .inl (hi d a))) (srcPos := sp) (destPos := dp) (n := n) (by rw [hT]; exact hc0) (by rw [hT]; exact hc1)
    (fun _ h => by cases h) (fun _ h => by cases h) (fun h => by cases h) (fun h => by cases h) hk0 hk9 hkk0 hkk9 (by simp [refKind]) k1 k2 k3
    (by rw [nn sp k1, nn n k3]; show ¬ _ > ((arrV (tA T 0) (hn g a0) (fun j => .int (hi d a0 j))).slots.size : Int); rw [arrV_size]; omega)
    (by rw [nn dp k2, nn n k3]; show ¬ _ > ((arrV (tA T 0) (hn g a) (fun j => .int (hi d a j))).slots.size : Int); rw [arrV_size]; omega)
    (fun vm₁ _ i hi9 => by
      have e : (vp_cell (tA T 0) (hn g a0, .inl (hi d a0))).slots.getD (sp.toNatClampNeg + i) .null = .int (hi d a0 (sp.toNatClampNeg + i)) := by
        show (arrV (tA T 0) (hn g a0) (fun j => .int (hi d a0 j))).slots.getD _ _ = _
        rw [Array.getD_eq_getD_getElem?, arrV_read _ _ (by omega)]
        rfl
      refine ⟨?_, ?_⟩
      · rw [e]; rfl
      · rw [e]; exact trivial)
    (g := F0 (kM K) pc ls (.int n :: .int dp :: .ref a :: .int sp :: .ref a0 :: rest)) rfl (by rw [C.2.2.1]; exact h9.1) (rest := rest) rfl (by rw [C.2.1]; exact dd) (by rw [dK]; exact hd) (by rw [dK]; show 2 * 0 + _ + _ ≤ 64 * dk; omega)
  have e1 : copied (vp_cell (tA T 0) (hn g a0, .inl (hi d a0))) (vp_cell (tA T 0) (hn g a, .inl (hi d a))) sp dp n = vp_cell (tA T 0) (hn g a, .inl (va_cpy (hi d a0) (hi d a) sp.toNatClampNeg dp.toNatClampNeg n.toNatClampNeg)) := va_copied (fun z => .int z) (tA T 0) (tA T 0) (hi d a0) (hi d a) k4
  rw [e1] at X' step
  have h8 : a < H.size := (Array.getElem?_eq_some_iff.mp hc1).1
  generalize hC9 : vp_cell (tA T 0) (hn g a, .inl (va_cpy (hi d a0) (hi d a) sp.toNatClampNeg dp.toNatClampNeg n.toNatClampNeg)) = C9 at X' step
  have oq : ∀ q : Nat, q ≠ a → (H.setIfInBounds a C9)[q]? = H[q]? := fun q hq => by simp [Array.getElem?_setIfInBounds, Ne.symm hq]
  have hheap : ((T9.setVm vm').setCell a C9).heap = H.setIfInBounds a C9 := by rw [← hT]; rfl
  have hcA := cW_cA hw.2.2.1 h1 (by decide) (by decide)
  obtain ⟨t, b1, b2⟩ := kk (H.setIfInBounds a C9) _ ce sl ls ⟨hw.1, hw.2.1, CWd.set hw.2.2.1 (by rw [h1]; decide) (by rw [h1]; decide) (by
      rw [h1, wa_at]
      show (H.setIfInBounds a C9)[a]? = some _
      rw [← hC9]
      simp [Array.getElem?_setIfInBounds, h8]) (by simp) oq (fun q h => wa_ne h) (fun q h => rfl), ⟨by simp; exact hw.2.2.2.1, fun q g1 g2 => by
      rw [oq q (fun e => g2 (by rw [e]; exact hcA))]
      exact hw.2.2.2.2.1 q g1 g2, fun q hq => by
      rcases List.mem_append.mp hq with h | h
      · exact hw.2.2.2.2.2 q h
      · obtain ⟨z, -, hz⟩ := List.mem_map.mp h
        rw [← hz]
        exact hcA⟩⟩ h9 _ hheap X'
  exact ⟨t, step t b1, b2⟩
end CC
def optc {α β : Type} (o : Option α) (n : β) (s : α → β) : β := match o with | none => n | some x => s x
theorem pf_on {α β : Type} {o : Option α} {n : β} {s : α → β} {z : β} (e : o = none) (hf : optc o n s = z) : n = z := by subst e; exact hf
theorem pf_os {α β : Type} {o : Option α} {n : β} {s : α → β} {z : β} {x : α} (e : o = some x) (hf : optc o n s = z) : s x = z := by subst e; exact hf
