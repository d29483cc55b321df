/-! X-MODE: methods that may throw the Fault 'broken' -/
abbrev XR (R : Type) : Type := SR (R ⊕ Nat)
def xcase {R S : Type} (v : XR R) (k : R → Option (XR S)) : Option (XR S) := match v.1 with | .inl r => k r | .inr q => some (.inr q, v.2.1, v.2.2.1, 0, 0)
theorem pf_xl {R S : Type} {v : XR R} {k : R → Option (XR S)} {z : Option (XR S)} {r : R} (e : v.1 = .inl r) (hf : xcase v k = z) : k r = z := by unfold xcase at hf; rw [e] at hf; exact hf
theorem pf_xr {R S : Type} {v : XR R} {k : R → Option (XR S)} {q : Nat} {r9 : S ⊕ Nat} {g9 : CG} {d9 : CD} {k9 m9 : Nat} (e : v.1 = .inr q) (hf : xcase v k = some (r9, g9, d9, k9, m9)) : .inr q = r9 ∧ v.2.1 = g9 ∧ v.2.2.1 = d9 ∧ 0 = k9 ∧ 0 = m9 := by unfold xcase at hf; rw [e] at hf; exact sr_inj hf
abbrev OX : Type := Option Value ⊕ Nat
def xoI : Int32 ⊕ Nat → OX | .inl r => .inl (some (.int r)) | .inr q => .inr q
def xoL : Int64 ⊕ Nat → OX | .inl r => .inl (some (.long r)) | .inr q => .inr q
def xoR : Nat ⊕ Nat → OX | .inl r => .inl (some (.ref r)) | .inr q => .inr q
def xoV : Unit ⊕ Nat → OX | .inl _ => .inl none | .inr q => .inr q
abbrev FLT : String := "StatueRent$Fault"
def Qx (T : CT) (o : OX) (g : CG) (d : CD) : Array Value → State → Outcome → State → Prop := match o with | .inl v => Qc T v g d | .inr _ => fun _ _ _ _ => False
def Xx (T : CT) (o : OX) (g : CG) (d : CD) : Nat → String → State → State → Prop := fun q E st t => o = .inr q ∧ E = FLT ∧ CWd T g d t.heap ∧ va_F (cA T) st t
def KQx (K : KT) (T : CT) (o : OX) (c0 s0 : Nat) (g : CG) (d : CD) : Prop := kQ K = vy_MQ (kB K) (Qx T o g d) (Xx T o g d) (kA K) (kS K) c0 s0 (cA T) ∧ ∀ x ∈ (kC K).exceptionTable.toList, False
/-- K with another end -/
def kW (K : KT) (Q : State → Prop) : KT := (kP K, kL K, kE K, kR K, kS K, kM K, kA K, kB K, kMe K, kC K, Q)
/-- thrown: from pc, with locals L and stack st, q under way -/
def XT (K : KT) (nL : Nat) (Wd : WdT) (pc : Nat) (L : List (Nat × Value)) (st : List Value) (q : Nat) : Prop := ∀ (H : Heap) (locs : List Loc) (ce sl : Nat) (ls : Array Slot), Wd H locs ce sl → lv_has ls nL L → (∃ c9 : Cell, H[q]? = some c9 ∧ c9.vm = .none ∧ (kS K).vm.findClass FLT = some c9.cls) → vx_W (kP K) (kL K) (kE K) (kR K) (kS K) (kM K) (kA K) (kB K) (kMe K) (kC K) H locs ce sl (kQ K) (F0 (kM K) pc ls st) q
section XM
variable {K : KT} {T : CT} {c0 s0 c1 s1 dk : Nat} {g : CG} {d : CD} {cc : ByteArray} {nL : Nat} {own : String} {pc : Nat} {L : List (Nat × Value)} {rest : List Value} {a : Nat}
theorem x_ret {v : Option Value} {st : List Value} (hQ : KQx K T (.inl v) c0 s0 g d) (k : XJ (kW K (MQ (kB K) (Qc T v g d) (kA K) (kS K) c0 s0 (cA T))) nL (Wc (kW K (MQ (kB K) (Qc T v g d) (kA K) (kS K) c0 s0 (cA T))) T c0 s0 g d) pc L st) : XJ K nL (Wc K T c0 s0 g d) pc L st := by
  intro H lo ce sl ls hw h9
  have h := k H lo ce sl ls hw h9
  show W (kP K) (kL K) (kE K) (kR K) (kS K) (kM K) (kA K) (kB K) (kMe K) (kC K) H lo ce sl (kQ K) _
  rw [hQ.1]
  exact vy_ret h
/-- out of the method -/
theorem c_out {q : Nat} (C : Kok K cc nL own) (hQ : KQx K T (.inr q) c0 s0 g d) : XT K nL (Wc K T c0 s0 g d) pc L rest q := by
  intro H lo ce sl ls hw h9 ⟨c9, hc, hv, hk⟩
  rw [hQ.1]
  exact vy_out (E := FLT) (fun x hx => (hQ.2 x hx).elim) C.2.2.2.2.2 hc hv hk (fun t ht _ => ⟨rfl, rfl, by rw [ht]; exact hw.2.2.1, hw.2.2.2.F ht⟩) hw.2.2.2.2.2 (by rw [hw.1]; exact Nat.le_refl _) (by rw [hw.2.1]; exact Nat.le_refl _)
/-- a Fault thrown -/
theorem c_athrow {q : Nat} (C : Kok K cc nL own) (B : CB K T) (htq : ht g q = 2) (dd : decode cc pc = .ok (.athrow, 1)) (k : XT K nL (Wc K T c0 s0 g d) pc L rest q) : XJ K nL (Wc K T c0 s0 g d) pc L (.ref q :: rest) := by
  intro H lo ce sl ls hw h9
  obtain ⟨r, e1, cell, q1, q2, q3, -⟩ := cW_obj hw.2.2.1 htq (by decide) (by decide)
  have hcls := (B.1.1 1 _ (rfl : ccl[1]? = some (RX2, TX2, _))).2
  exact vx_athrow C.1 C.2.1 dd (k H lo ce sl ls hw h9 ⟨cell, q1, q3, by rw [q2]; exact hcls.1⟩)
theorem cx_after {H : Heap} {lo : List Loc} {ce sl mc ms : Nat} {ls : Array Slot} {st0 : List Value} {o : OX} {g' : CG} {d' : CD} {av : Array Value} (hw : Wc K T c0 s0 g d H lo ce sl) (h9 : lv_has ls nL L)
    (hr : vy_Run (kP K) (kL K) (kE K) (kR K) (kS K) (kM K) (kA K) (kB K) (kMe K) (kC K) H lo ce sl mc ms (F0 (kM K) pc ls st0) rest (Qx T o g' d' av) (Xx T o g' d') (cA T))
    (kx : ∀ q, o = .inr q → XT K nL (Wc K T (c0 + mc) (s0 + ms) g' d') pc L rest q)
    (kk : ∀ v, o = .inl v → XJ K nL (Wc K T (c0 + mc) (s0 + ms) g' d') (pc + 3) L (v.toList ++ rest)) : WK K H lo ce sl (F0 (kM K) pc ls st0) := by
  intro TT hT XX
  rcases hr TT hT XX with ⟨v', st₀, t, T', L9, h0, X', hL, e1, e2, hq, st⟩ | ⟨q, st₀, t, T', L9, E, c9, h0, X', hL, e1, e2, ⟨ho, hE, hP', hF⟩, hc, hv, hcl, st⟩
  · cases o with
    | inr q => exact hq.elim
    | inl v =>
      obtain ⟨hv, hP', hF⟩ := hq
      cases hv
      obtain ⟨rfl, rfl, hP, hS⟩ := hw
      have hz := hF.1
      have hk := hF.2
      rw [h0] at hz hk
      obtain ⟨t2, a1, b1⟩ := kk _ rfl T'.heap (lo ++ L9) _ _ ls ⟨rfl, rfl, by rw [e1]; exact hP', ⟨Nat.le_trans hS.1 (by rw [e1]; exact hz), fun q h1 h2 => by rw [e1, hk q (Nat.lt_of_lt_of_le h1 hS.1) h2]; exact hS.2.1 q h1 h2, fun q hq => by
          rcases List.mem_append.mp hq with h | h
          · exact hS.2.2 q h
          · exact hL q h⟩⟩ h9 T' rfl X'
      exact ⟨t2, st t2 a1, b1⟩
  · obtain ⟨rfl, rfl, hP, hS⟩ := hw
    have hz := hF.1
    have hk := hF.2
    rw [h0] at hz hk
    subst hE
    obtain ⟨t2, a1, b1⟩ := kx q ho T'.heap (lo ++ L9) _ _ ls ⟨rfl, rfl, by rw [e1]; exact hP', ⟨Nat.le_trans hS.1 (by rw [e1]; exact hz), fun q h1 h2 => by rw [e1, hk q (Nat.lt_of_lt_of_le h1 hS.1) h2]; exact hS.2.1 q h1 h2, fun q hq => by
        rcases List.mem_append.mp hq with h | h
        · exact hS.2.2 q h
        · exact hL q h⟩⟩ h9 ⟨c9, by rw [e1]; exact hc, hv, hcl⟩ T' rfl X'
    exact ⟨t2, st.trans a1, b1⟩
/-- a call of one that may throw, by its own link -/
theorem cx_callV {y : MethodName} {code : ByteArray} {maxL idx d9 mc ms t N : Nat} {Cn : String} {Tt : u_T} {ret : Option FieldType} {o : OX} {g' : CG} {d' : CD} {st0 : List Value} (As : List Value) (n9 : Nat) (hna : As.length = n9) (C : Kok K cc nL own) (B : CB K T) (hta : ht g a = t) (h0 : t ≠ 0) (h90 : t < 90) (hc : ccl[t - 1]? = some (Cn, Tt, N)) (dK : kR K = rmC dk c1 s1) (hd : d9 + 1 ≤ dk) (hL : maxL ≤ 45) (hcs : c0 + mc ≤ c1 ∧ s0 + ms ≤ s1)
    (good : GoodIn lw_all (wsV own idx Cn y (ws_ y code maxL ret))) (hy : y.cls = Cn ∧ y.cls ≠ "java/lang/invoke/MethodHandle" ∧ y.cls ≠ "java/lang/invoke/VarHandle" ∧ (parseMethodDescriptor y.desc).map (fun d => d.parameters.length) = some n9)
    (hM : vy_Met (kL K) y (ws_ y code maxL ret) (rmC d9 mc ms) (va_Pc (.ref a :: As) (CU T g d)) (Qx T o g' d') (Xx T o g' d') mc ms (cA T)) (hst : st0 = As.reverse ++ .ref a :: rest) (hW : (rest.map fun v => v.category).sum ≤ 8) (dd : decode cc pc = .ok (.invokevirtual idx, 3))
    (kx : ∀ q, o = .inr q → XT K nL (Wc K T (c0 + mc) (s0 + ms) g' d') pc L rest q) (kk : ∀ v, o = .inl v → XJ K nL (Wc K T (c0 + mc) (s0 + ms) g' d') (pc + 3) L (v.toList ++ rest)) : XJ K nL (Wc K T c0 s0 g d) pc L st0 := by
  intro H lo ce sl ls hw h9
  have hts := C.2.2.2.2.1
  exact cx_after hw h9 (vy_runV (C := Cn) (n := n9) ⟨C.1, C.2.1, C.2.2.1, C.2.2.2.1, C.2.2.2.2.1⟩ hM (cwV n9 hts good rfl rfl rfl hy (c_room dK hd hL)) ⟨c_blind, c_rcv B hw hta h0 h90 hc, c_pre B hw⟩ rfl hna h9.1 hst (lv_room hW) dd (c_cells hw dK hcs)) kx kk
/-- one of the Reader's, by whoever reads -/
theorem cx_callU {x y : MethodName} {code : ByteArray} {maxL idx d9 mc ms t N : Nat} {Cn owner : String} {Tt : u_T} {ret : Option FieldType} {o : OX} {g' : CG} {d' : CD} {st0 : List Value} (As : List Value) (n9 : Nat) (hna : As.length = n9) (C : Kok K cc nL own) (B : CB K T) (hta : ht g a = t) (h0 : t ≠ 0) (h90 : t < 90) (hc : ccl[t - 1]? = some (Cn, Tt, N)) (dK : kR K = rmC dk c1 s1) (hd : d9 + 1 ≤ dk) (hL : maxL ≤ 45) (hcs : c0 + mc ≤ c1 ∧ s0 + ms ≤ s1)
    (hcd : Cond.code y code maxL ret ∈ lw_all) (hlk : Cond.methodLink own idx x ∈ lw_all) (hsm : Cond.sameMethod x.cls owner x.name x.desc ∈ lw_all) (hse : (Cond.selects Cn x y).before (kA K) (kS K) = true) (hin : Cond.instanceMethod y ∈ lw_all) (hini : Cond.initialized y.cls ∈ lw_all) (hyx : y = ⟨owner, x.name, x.desc⟩)
    (hy : owner ≠ "java/lang/invoke/MethodHandle" ∧ owner ≠ "java/lang/invoke/VarHandle" ∧ (parseMethodDescriptor x.desc).map (fun d => d.parameters.length) = some n9)
    (hM : vy_Met (kL K) y (ws_ y code maxL ret) (rmC d9 mc ms) (va_Pc (.ref a :: As) (CU T g d)) (Qx T o g' d') (Xx T o g' d') mc ms (cA T)) (hst : st0 = As.reverse ++ .ref a :: rest) (hW : (rest.map fun v => v.category).sum ≤ 8) (dd : decode cc pc = .ok (.invokevirtual idx, 3))
    (kx : ∀ q, o = .inr q → XT K nL (Wc K T (c0 + mc) (s0 + ms) g' d') pc L rest q) (kk : ∀ v, o = .inl v → XJ K nL (Wc K T (c0 + mc) (s0 + ms) g' d') (pc + 3) L (v.toList ++ rest)) : XJ K nL (Wc K T c0 s0 g d) pc L st0 := by
  intro H lo ce sl ls hw h9
  have hts := C.2.2.2.2.1
  have hR := c_room (mc := mc) (ms := ms) dK hd hL
  have cw : va_CU (kR K) (kS K) (kA K) own Cn owner idx x y code maxL ret (ws_ y code maxL ret) (rmC d9 mc ms) mc ms n9 :=
    ⟨⟨rfl, rfl, hR.1, hR.2, pay_in hts (lw_meth hcd), List.mem_cons_self⟩, hts _ hcd, hts _ hini, ⟨hy.1, hy.2.1⟩, fun sig h => by
      have h2 := hy.2.2
      rw [h] at h2
      exact (Option.some.inj h2).symm, hts _ hlk, hts _ hsm, by rw [← hyx]; exact va_Decl.of (hts _ hin) (hts _ hcd), hse, hts _ hin⟩
  exact cx_after hw h9 (vy_runU (C := Cn) (n := n9) ⟨C.1, C.2.1, C.2.2.1, C.2.2.2.1, C.2.2.2.2.1⟩ hM cw ⟨c_blind, c_rcv B hw hta h0 h90 hc, c_pre B hw⟩ rfl hna h9.1 hst (lv_room hW) dd (c_cells hw dK hcs)) kx kk
end XM
theorem cx_met {T : CT} {g : CG} {d : CD} {l : Launch} {y : MethodName} {code : ByteArray} {maxL d9 mc ms : Nat} {ret : Option FieldType} {o : OX} {g' : CG} {d' : CD} (av : List Value) (Rn : String) (hy : plainName y.cls = true) (hyc : y.cls = Rn) (hav : (lg_sl av).length ≤ maxL)
    (walk : ∀ K : KT, kL K = l → kR K = rmC d9 mc ms → (kMe K).sig.returnType = ret → Kok K code maxL Rn → CB K T → KQx K T o mc ms g' d' → XJ K maxL (Wc K T 0 0 g d) 0 (lv_args 0 av) []) : vy_Met l y (ws_ y code maxL ret) (rmC d9 mc ms) (va_Pc av (CU T g d)) (Qx T o g' d') (Xx T o g' d') mc ms (cA T) := by
  refine vy_ofW (cc := code) (maxL := maxL) (ret := ret) hy rfl ?_
  intro p e s m args below meth c s₁ B hml hex hv
  obtain ⟨rfl, hP, hK, hN, hF⟩ := hv
  have hts := atoms_spec (ws := ws_ y code maxL ret) B.pre
  have hts : ∀ w ∈ lw_all, w.before _ s = true := fun w h => hts w (List.mem_cons_of_mem _ h)
  have hown : s.vm.findClass Rn = some m.cls := by rw [← hyc]; exact findClass_of_methodNamed B.named
  have h9 := lv_entry av (n := maxL) hav
  rw [lg_entry_eq]
  exact walk (p, l, e, rmC d9 mc ms, s, m, av.toArray, below, meth, c, vy_MQ below (Qx T o g' d') (Xx T o g' d') av.toArray s mc ms (cA T)) rfl rfl B.returns ⟨B.exec, B.bytes, hml, hown, hts, B.notSynchronized⟩ ⟨hK, hN, hF⟩ ⟨rfl, hex⟩ s.heap [] 0 0 _ ⟨rfl, rfl, hP, va_S.rf⟩ h9
theorem c_csT {K : KT} {T : CT} {nL pc : Nat} {L : List (Nat × Value)} {g : CG} {d : CD} {c0 s0 c0' s0' q : Nat} {st : List Value} (h1 : c0' = c0) (h2 : s0' = s0) (k : XT K nL (Wc K T c0 s0 g d) pc L st q) : XT K nL (Wc K T c0' s0' g d) pc L st q := by subst h1; subst h2; exact k
theorem xoI_r {x : Int32 ⊕ Nat} {q : Nat} (h : xoI x = .inr q) : x = .inr q := by cases x with | inl r => cases h | inr p => cases h; rfl
theorem xoL_r {x : Int64 ⊕ Nat} {q : Nat} (h : xoL x = .inr q) : x = .inr q := by cases x with | inl r => cases h | inr p => cases h; rfl
theorem xoR_r {x : Nat ⊕ Nat} {q : Nat} (h : xoR x = .inr q) : x = .inr q := by cases x with | inl r => cases h | inr p => cases h; rfl
theorem xoV_r {x : Unit ⊕ Nat} {q : Nat} (h : xoV x = .inr q) : x = .inr q := by cases x with | inl r => cases h | inr p => cases h; rfl
theorem xoI_l {x : Int32 ⊕ Nat} {w : Option Value} (h : xoI x = .inl w) : ∃ r, x = .inl r ∧ w = some (.int r) := by cases x with | inl r => cases h; exact ⟨r, rfl, rfl⟩ | inr p => cases h
theorem xoL_l {x : Int64 ⊕ Nat} {w : Option Value} (h : xoL x = .inl w) : ∃ r, x = .inl r ∧ w = some (.long r) := by cases x with | inl r => cases h; exact ⟨r, rfl, rfl⟩ | inr p => cases h
theorem xoR_l {x : Nat ⊕ Nat} {w : Option Value} (h : xoR x = .inl w) : ∃ r, x = .inl r ∧ w = some (.ref r) := by cases x with | inl r => cases h; exact ⟨r, rfl, rfl⟩ | inr p => cases h
theorem xoV_l {x : Unit ⊕ Nat} {w : Option Value} (h : xoV x = .inl w) : ∃ r, x = .inl r ∧ w = none := by cases x with | inl r => cases h; exact ⟨r, rfl, rfl⟩ | inr p => cases h
def lnT (t : Nat) : Bool := t == 9 || t == 10 || t == 11 || t == 12 || t == 13
theorem lnT_or {t : Nat} (h : lnT t = true) : t = 9 ∨ t = 10 ∨ t = 11 ∨ t = 12 ∨ t = 13 := by
  unfold lnT at h
  simp only [Bool.or_eq_true, beq_iff_eq] at h
  omega
theorem c_astL {K : KT} {T : CT} {c0 s0 : Nat} {g : CG} {d : CD} {cc : ByteArray} {nL : Nat} {own : String} {pc : Nat} {L : List (Nat × Value)} {rest : List Value} {a : Nat} {i : Int32} {v : Nat} (C : Kok K cc nL own) (B : CB K T) (hta : ht g a = 107) (hv : lnT (ht g v) = true) (hin : vp_in i (hn g a)) (dd : decode cc pc = .ok (.aastore, 1)) (kk : XJ K nL (Wc K T c0 s0 (wr g a i.toNatClampNeg (some v)) d) (pc + 1) L rest) : XJ K nL (Wc K T c0 s0 g d) pc L (.ref v :: .int i :: .ref a :: rest) := by
  rcases lnT_or hv with e | e | e | e | e
  · exact c_ast 7 C B (by decide) hta rfl e (by decide) (by decide) rfl (Or.inr q2557) hin dd kk
  · exact c_ast 7 C B (by decide) hta rfl e (by decide) (by decide) rfl (Or.inr q2558) hin dd kk
  · exact c_ast 7 C B (by decide) hta rfl e (by decide) (by decide) rfl (Or.inr q2559) hin dd kk
  · exact c_ast 7 C B (by decide) hta rfl e (by decide) (by decide) rfl (Or.inr q2560) hin dd kk
  · exact c_ast 7 C B (by decide) hta rfl e (by decide) (by decide) rfl (Or.inr q2561) hin dd kk
