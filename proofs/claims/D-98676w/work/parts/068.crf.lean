/-! A CALL THROUGH THE INTERFACE -/
theorem lw_F {own : String} {idx : Nat} {C : String} {x y : MethodName} {b : ByteArray} {L : Nat} {r : Option FieldType} (h1 : Cond.methodLink own idx x ∈ lw_all) (h2 : Cond.selects C x y ∈ lw_all) (h3 : Cond.instanceMethod y ∈ lw_all) (h4 : Cond.initialized y.cls ∈ lw_all) (h5 : Cond.code y b L r ∈ lw_all) : GoodIn lw_all (va_wsF own idx C x y (ws_ y b L r)) := by
  refine lw_app ?_ (lw_meth h5)
  intro w hw
  simp only [List.mem_cons, List.not_mem_nil, or_false] at hw
  rcases hw with e | e | e | e
  · rw [e]; exact h1
  · rw [e]; exact h2
  · rw [e]; exact h3
  · rw [e]; exact h4
section CF
variable {K : KT} {T : CT} {c0 s0 c1 s1 dk : Nat} {g : CG} {d : CD} {cc : ByteArray} {nL : Nat} {own : String} {pc : Nat} {L : List (Nat × Value)} {rest : List Value} {a : Nat}
theorem c_after5 {H : Heap} {lo : List Loc} {ce sl mc ms : Nat} {ls : Array Slot} {st0 : List Value} {v : Option Value} {g' : CG} {d' : CD} {av : Array Value} (hw : Wc K T c0 s0 g d H lo ce sl) (h9 : lv_has ls nL L)
    (hr : va_Run5 (kP K) (kL K) (kE K) (kR K) (kS K) (kM K) (kA K) (kB K) (kMe K) (kC K) H lo ce sl mc ms (F0 (kM K) pc ls st0) rest (Qc T v g' d' av) (cA T))
    (kk : XJ K nL (Wc K T (c0 + mc) (s0 + ms) g' d') (pc + 5) L (v.toList ++ rest)) : WK K H lo ce sl (F0 (kM K) pc ls st0) := by
  intro TT hT XX
  obtain ⟨v', st₀, t, T', L9, h0, X', hL, e1, e2, ⟨hv, hP', hF⟩, st⟩ := hr TT hT XX
  cases hv
  obtain ⟨rfl, rfl, hP, hS⟩ := hw
  have hz := hF.1
  have hk := hF.2
  rw [h0] at hz hk
  obtain ⟨t2, a1, b1⟩ := kk T'.heap (lo ++ L9) _ _ ls ⟨rfl, rfl, by rw [e1]; exact hP', ⟨Nat.le_trans hS.1 (by rw [e1]; exact hz), fun q h1 h2 => by rw [e1, hk q (Nat.lt_of_lt_of_le h1 hS.1) h2]; exact hS.2.1 q h1 h2, fun q hq => by
      rcases List.mem_append.mp hq with h | h
      · exact hS.2.2 q h
      · exact hL q h⟩⟩ h9 T' rfl X'
  exact ⟨t2, st t2 a1, b1⟩
theorem c_callF {x y : MethodName} {code : ByteArray} {maxL idx count d9 mc ms t N : Nat} {Cn : String} {Tt : u_T} {ret : Option FieldType} {v : Option Value} {g' : CG} {d' : CD} {st0 : List Value} (As : List Value) (n9 : Nat) (hna : As.length = n9) (C : Kok K cc nL own) (B : CB K T) (hta : ht g a = t) (h0 : t ≠ 0) (h90 : t < 90) (hc : ccl[t - 1]? = some (Cn, Tt, N)) (dK : kR K = rmC dk c1 s1) (hd : d9 + 1 ≤ dk) (hL : maxL ≤ 45) (hcs : c0 + mc ≤ c1 ∧ s0 + ms ≤ s1)
    (good : GoodIn lw_all (va_wsF own idx Cn x y (ws_ y code maxL ret))) (hF : va_Fw Cn x y (kS K)) (hy : x.cls ≠ "java/lang/invoke/MethodHandle" ∧ x.cls ≠ "java/lang/invoke/VarHandle" ∧ (parseMethodDescriptor x.desc).map (fun d => d.parameters.length) = some n9)
    (hM : Met (kL K) y (ws_ y code maxL ret) (rmC d9 mc ms) (va_Pc (.ref a :: As) (CU T g d)) (Qc T v g' d') mc ms (cA T)) (hst : st0 = As.reverse ++ .ref a :: rest) (hW : (rest.map fun v => v.category).sum ≤ 8) (dd : decode cc pc = .ok (.invokeinterface idx count, 5)) (kk : XJ K nL (Wc K T (c0 + mc) (s0 + ms) g' d') (pc + 5) L (v.toList ++ rest)) : XJ K nL (Wc K T c0 s0 g d) pc L st0 := by
  intro H lo ce sl ls hw h9
  have hts := C.2.2.2.2.1
  exact c_after5 hw h9 (va_runF (C := Cn) (n := n9) (B.1.1 (t - 1) _ hc).2 ⟨C.1, C.2.1, C.2.2.1, C.2.2.2.1, C.2.2.2.2.1⟩ hM (va_cwF n9 hts good rfl rfl rfl hF hy (c_room dK hd hL)) ⟨c_blind, c_rcv B hw hta h0 h90 hc, c_pre B hw⟩ rfl hna h9.1 hst (lv_room hW) dd (c_cells hw dK hcs)) kk
end CF
