/-! METHODS WITH A HANDLER for the Fault -/
def xhand {R S : Type} (v : XR R) (k : R → Option (SR S)) (h : Nat → Option (SR S)) : Option (SR S) := match v.1 with | .inl r => k r | .inr q => h q
theorem pf_hl {R S : Type} {v : XR R} {k : R → Option (SR S)} {h : Nat → Option (SR S)} {z : Option (SR S)} {r : R} (e : v.1 = .inl r) (hf : xhand v k h = z) : k r = z := by unfold xhand at hf; rw [e] at hf; exact hf
theorem pf_hr {R S : Type} {v : XR R} {k : R → Option (SR S)} {h : Nat → Option (SR S)} {z : Option (SR S)} {q : Nat} (e : v.1 = .inr q) (hf : xhand v k h = z) : h q = z := by unfold xhand at hf; rw [e] at hf; exact hf
theorem c_catch {K : KT} {T : CT} {Wd : WdT} {cc : ByteArray} {nL : Nat} {own : String} {pc : Nat} {L : List (Nat × Value)} {rest : List Value} {q a b h ct : Nat} (C : Kok K cc nL own) (B : CB K T) (hX : (kC K).exceptionTable.toList = tableOf [(a, b, h, ct)]) (hin : a ≤ pc ∧ pc < b) (h0 : ct ≠ 0) (hlk : Cond.classLink own ct FLT ∈ lw_all) (kk : XJ K nL Wd h L [.ref q]) : XT K nL Wd pc L rest q := by
  intro H lo ce sl ls hw h9 ⟨c9, hc, hv, hk⟩
  exact vx_catch (E := FLT) (name := FLT) C.2.2.2.1 [] ⟨a, b, h, ct⟩ [] hX (fun z hz => by cases hz) (by simp [covers, hin.1, hin.2]) h0 (C.2.2.2.2.1 _ hlk) (va_Nw.use rfl (B.2.1.1 _ (nw_in q166 rfl))) hc hv hk (kk H lo ce sl ls hw h9)
theorem ch_met {T : CT} {g : CG} {d : CD} {l : Launch} {y : MethodName} {code : ByteArray} {maxL d9 mc ms : Nat} {ret : Option FieldType} {hh : List (Nat × Nat × Nat × Nat)} {v : Option Value} {g' : CG} {d' : CD} (av : List Value) (Rn : String) (hy : plainName y.cls = true) (hyc : y.cls = Rn) (hav : (lg_sl av).length ≤ maxL)
    (walk : ∀ K : KT, kL K = l → kR K = rmC d9 mc ms → (kMe K).sig.returnType = ret → Kok K code maxL Rn → CB K T → (kC K).exceptionTable.toList = tableOf hh → KQc K T v mc ms g' d' → XJ K maxL (Wc K T 0 0 g d) 0 (lv_args 0 av) []) : vx_Met l y (wsW_ y code maxL ret hh) (rmC d9 mc ms) (va_Pc av (CU T g d)) (Qc T v g' d') (fun _ _ _ => False) mc ms (cA T) := by
  refine vx_ofWH (cc := code) (maxL := maxL) (ret := ret) (hh := hh) hy rfl ?_
  intro p e s m args below meth c s₁ B hml hv
  obtain ⟨rfl, hP, hK, hN, hF⟩ := hv
  have hts := atoms_spec (ws := wsW_ y code maxL ret hh) B.pre
  have hX := vx_table (x := y) B (hts _ List.mem_cons_self)
  have hts : ∀ w ∈ lw_all, w.before _ s = true := fun w h => hts w (List.mem_cons_of_mem _ h)
  have hown : s.vm.findClass Rn = some m.cls := by rw [← hyc]; exact findClass_of_methodNamed B.named
  have h9 := lv_entry av (n := maxL) hav
  rw [lg_entry_eq]
  exact vx_ret (walk (p, l, e, rmC d9 mc ms, s, m, av.toArray, below, meth, c, MQ below (Qc T v g' d') av.toArray s mc ms (cA T)) rfl rfl B.returns ⟨B.exec, B.bytes, hml, hown, hts, B.notSynchronized⟩ ⟨hK, hN, hF⟩ hX rfl s.heap [] 0 0 _ ⟨rfl, rfl, hP, va_S.rf⟩ h9)
