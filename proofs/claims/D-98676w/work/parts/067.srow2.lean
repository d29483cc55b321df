/-! rows for S-mode: null, arrays of arrays, arraycopy of references -/
section SX
variable {K : KT} {cc : ByteArray} {nL : Nat} {own : String} {Wd : WdT} {pc : Nat} {L L' : List (Nat × Value)} {rest : List Value}
theorem x_toprr {x y : Nat} (h : y = x) (k : XJ K nL Wd pc L (.ref y :: rest)) : XJ K nL Wd pc L (.ref x :: rest) := h ▸ k
theorem x_null (C : Kok K cc nL own) (d : decode cc pc = .ok (.aconst_null, 1)) (k : XJ K nL Wd (pc + 1) L (.null :: rest)) : XJ K nL Wd pc L rest := fun H lo ce sl ls hw hl => lv_null C.1 C.2.1 d (k H lo ce sl ls hw hl)
theorem x_ifnull {x : Nat} {off : Int} (C : Kok K cc nL own) (d : decode cc pc = .ok (.ifnull off, 3)) (k : XJ K nL Wd (pc + 3) L rest) : XJ K nL Wd pc L (.ref x :: rest) := fun H lo ce sl ls hw hl => lv_ifnull C.1 C.2.1 d (k H lo ce sl ls hw hl)
theorem x_ifnullN {off : Int} {tgt : Nat} (C : Kok K cc nL own) (d : decode cc pc = .ok (.ifnull off, 3)) (ht : (pc : Int) + off = (tgt : Int)) (k : XJ K nL Wd tgt L rest) : XJ K nL Wd pc L (.null :: rest) := fun H lo ce sl ls hw hl => lv_ifnullN C.1 C.2.1 d ht (k H lo ce sl ls hw hl)
theorem x_ifnonnull {x : Nat} {off : Int} {tgt : Nat} (C : Kok K cc nL own) (d : decode cc pc = .ok (.ifnonnull off, 3)) (ht : (pc : Int) + off = (tgt : Int)) (k : XJ K nL Wd tgt L rest) : XJ K nL Wd pc L (.ref x :: rest) := fun H lo ce sl ls hw hl => lv_ifnonnull C.1 C.2.1 d ht (k H lo ce sl ls hw hl)
theorem x_ifnonnullN {off : Int} (C : Kok K cc nL own) (d : decode cc pc = .ok (.ifnonnull off, 3)) (k : XJ K nL Wd (pc + 3) L rest) : XJ K nL Wd pc L (.null :: rest) := fun H lo ce sl ls hw hl => lv_ifnonnullN C.1 C.2.1 d (k H lo ce sl ls hw hl)
end SX
theorem as_self (vm : Vm) (c : ClassId) : vm.assignable c c = true := by
  unfold Vm.assignable Vm.assignableAux
  simp [Vm.isSubclass, Vm.isSubclassAux]
section SW2
variable {K : KT} {T : CT} {c0 s0 c1 s1 dk : Nat} {g : CG} {d : CD} {cc : ByteArray} {nL : Nat} {own : String} {pc : Nat} {L : List (Nat × Value)} {rest : List Value} {a : Nat}
theorem c_renGD {g1 g2 : CG} {d1 d2 : CD} {st : List Value} (h : g1 = g2) (h2 : d1 = d2) (k : XJ K nL (Wc K T c0 s0 g1 d1) pc L st) : XJ K nL (Wc K T c0 s0 g2 d2) pc L st := by subst h; subst h2; exact k
theorem aoA (B : CB K T) : ∃ kA : Class, (kS K).vm.classes[tA T 8]? = some kA ∧ kA.kind = .array (tA T 0) (.array .int) := by
  obtain ⟨comp, c, k, f1, -, f3, f4, f5⟩ := arrayOverA_spec (B.2.1.1 _ (nw_ao q266 rfl))
  have h8 : (kS K).vm.findClass ("[" ++ (FieldType.array .int).toString) = some (tA T 8) := (B.1.2 8 _ rfl).2
  have h0 : (kS K).vm.findClass ("[" ++ (FieldType.int).toString) = some (tA T 0) := (B.1.2 0 _ rfl).2
  cases h8.symm.trans f5
  have e : comp = tA T 0 := Option.some.inj (f1.symm.trans h0)
  subst e
  exact ⟨k, f3, f4⟩
/-- an array of int rows -/
theorem c_anewA {i : Int32} {idx : Nat} (C : Kok K cc nL own) (B : CB K T) (hcl : Cond.classLink own idx "[I" ∈ lw_all) (h : naok i = true) (dK : kR K = rmC dk c1 s1) (hcs : c0 + 1 ≤ c1 ∧ s0 + i.toNatClampNeg ≤ s1) (dd : decode cc pc = .ok (.anewarray idx, 3)) (kk : XJ K nL (Wc K T (c0 + 1) (s0 + i.toNatClampNeg) (na g 108 i.toNatClampNeg) (nd d (hz g))) (pc + 3) L (.ref (hz g) :: rest)) : XJ K nL (Wc K T c0 s0 g d) pc L (.int i :: rest) := by
  intro H lo ce sl ls hw h9
  have hts := C.2.2.2.2.1
  have hcc := c_cells (mc := 1) (ms := i.toNatClampNeg) hw dK hcs
  have hb : i.toNatClampNeg * 4 ≤ 536870912 := Nat.le_trans (Nat.mul_le_mul_right _ (naok_of h).2) (by decide)
  refine W.anewA (t := .int) C.1 C.2.1 C.2.2.2.1 (hts _ hcl) (aoA_moved (Vm.Alike.refl _) (B.2.1.1 _ (nw_ao q266 rfl))) rfl dd rfl (naok_of h).1 hb hcc.1 hcc.2 fun cA9 kA comp f1 f2 f3 f4 => ?_
  have hcA9 : cA9 = tA T 8 := Option.some.inj (f1.symm.trans (B.1.2 8 _ rfl).2)
  subst hcA9
  generalize hH1 : H.push ({ cls := tA T 8, slots := Array.replicate i.toNatClampNeg .null, vm := .none } : Cell) = H1
  have z1 : H1.size = H.size + 1 := by rw [← hH1, Array.size_push]
  have e1 : H1[H.size]? = some (arrV (tA T 8) i.toNatClampNeg (fun _ => .null)) := by rw [← hH1, Array.getElem?_push_size, ← arrV_new]
  have o1 : ∀ q : Nat, q < H.size → H1[q]? = H[q]? := fun q hq => by rw [← hH1, Array.getElem?_push, if_neg (Nat.ne_of_lt hq)]
  rw [hw.2.2.1.1] at e1 ⊢
  exact kk H1 lo _ _ ls ⟨by rw [hw.1], by rw [hw.2.1], CWd.push hw.2.2.1 (Or.inr (by decide)) z1 o1 (okR (k9 := 8) (by decide) e1), vaS_push hw.2.2.2 z1 o1⟩ h9
/-- an int row goes into an array of int rows -/
theorem c_ast8 {i : Int32} {v : Nat} (C : Kok K cc nL own) (B : CB K T) (hta : ht g a = 108) (htv : ht g v = 100) (hin : vp_in i (hn g a)) (dd : decode cc pc = .ok (.aastore, 1)) (kk : XJ K nL (Wc K T c0 s0 (wr g a i.toNatClampNeg (some v)) d) (pc + 1) L rest) : XJ K nL (Wc K T c0 s0 g d) pc L (.ref v :: .int i :: .ref a :: rest) := by
  intro H lo ce sl ls hw h9
  have hlt : i.toNatClampNeg < hn g a := Nat.not_le.mp fun q => hin (Or.inr q)
  have hi0 : ¬ i < 0 := fun q => hin (Or.inl q)
  have ho := cW_arq9 (k9 := 8) hw.2.2.1 hta (by decide)
  have hv : H[v]? = some (vp_cell (tA T 0) (hn g v, .inl (hi d v))) := cW_arr hw.2.2.1 htv (by decide) (by decide) (by decide)
  obtain ⟨kA, k1, k2⟩ := aoA B
  obtain ⟨-, k0, hk0, cm0, hkk0⟩ := (B.1.2 0 _ rfl).1 (hn g v) (fun j => .int (hi d v j))
  exact W.aast C.1 C.2.1 ho (fun q h => by cases h) (fun h => by cases h) k1 k2 rfl hk0 ⟨hi0, by show _ < (arrV _ _ _).slots.size; rw [arrV_size]; exact hlt⟩ hv (fun q h => by cases h) hk0 (as_self _ _) rfl rfl dd fun H1 e z oq => c_asttail (k9 := 8) hw h9 (by decide) hta e z oq kk
/-- a whole row of references set -/
def wra (g : CG) (a : Nat) (f : Nat → Option Nat) : CG := (g.1, g.2.1, fun b => if b = a then f else hr g b, g.2.2.2)
theorem hr_wra_at {f : Nat → Option Nat} : hr (wra g a f) a = f := by show (if a = a then f else _) = f; rw [if_pos rfl]
theorem hr_wra_ne {b : Nat} {f : Nat → Option Nat} (h : b ≠ a) : hr (wra g a f) b = hr g b := by show (if b = a then f else hr g b) = _; rw [if_neg h]
/-- so many places hold null or a State -/
def allst (g : CG) (a s n : Nat) : Bool := (List.range n).all fun j => match hr g a (s + j) with | none => true | some y => ht g y == 4
theorem allst_of {s n : Nat} (h : allst g a s n = true) {j y : Nat} (hj : j < n) (e : hr g a (s + j) = some y) : ht g y = 4 := by
  have h2 := List.all_eq_true.mp h j (List.mem_range.mpr hj)
  rw [e] at h2
  simpa using h2
theorem c_copyS {a0 idx : Nat} {sp dp n : Int32} (C : Kok K cc nL own) (B : CB K T) (hlk : Cond.methodLink own idx arraycopyName ∈ lw_all) (hnat : Cond.native arraycopyName ∈ lw_all) (hstat : Cond.static arraycopyName ∈ lw_all) (hini : Cond.initialized "java/lang/System" ∈ lw_all) (h0 : ht g a0 = 104) (h1 : ht g a = 104) (ok : cpok sp dp n (hn g a0) (hn g a) = true) (sc : allst g a0 sp.toNatClampNeg n.toNatClampNeg = true) (dK : kR K = rmC dk c1 s1) (hd : 1 ≤ dk) (hW : (rest.map fun v => v.category).sum ≤ 8) (dd : decode cc pc = .ok (.invokestatic idx, 3))
    (kk : XJ K nL (Wc K T c0 s0 (wra g a (va_cpy (hr g a0) (hr g a) sp.toNatClampNeg dp.toNatClampNeg n.toNatClampNeg)) d) (pc + 3) L rest) : XJ K nL (Wc K T c0 s0 g d) pc L (.int n :: .int dp :: .ref a :: .int sp :: .ref a0 :: rest) := by
  intro H lo ce sl ls hw h9
  unfold cpok at ok
  simp only [Bool.and_eq_true, decide_eq_true_eq] at ok
  obtain ⟨⟨⟨⟨k1, k2⟩, k3⟩, k4⟩, k5⟩ := ok
  have nn : ∀ z : Int32, ¬ z < 0 → z.toInt = (z.toNatClampNeg : Int) := by
    intro z hz
    have hz0 : (0 : Int) ≤ z.toInt := by
      have := Int32.not_lt.mp hz
      simpa using Int32.le_iff_toInt_le.mp this
    show z.toInt = ((z.toInt.toNat : Nat) : Int)
    omega
  have hc0 : H[a0]? = some (vp_cell (tA T 4) (hn g a0, .inr (.inr (.inr (.inr (hr g a0)))))) := cW_arq9 (k9 := 4) hw.2.2.1 h0 (by decide)
  have hc1 : H[a]? = some (vp_cell (tA T 4) (hn g a, .inr (.inr (.inr (.inr (hr g a)))))) := cW_arq9 (k9 := 4) hw.2.2.1 h1 (by decide)
  have hfw : nativeFrameWords "java/lang/System" "arraycopy" 5 + 11 ≤ 56 := by decide
  intro T9 hT X
  obtain ⟨-, k0, hk0, cm0, hkk0⟩ := (B.1.2 4 _ rfl).1 (hn g a0) (fun j => va_rf (hr g a0 j))
  obtain ⟨-, k9, hk9, cm9, hkk9⟩ := (B.1.2 4 _ rfl).1 (hn g a) (fun j => va_rf (hr g a j))
  obtain ⟨vm', X', step⟩ := X.arraycopy C.1 C.2.2.2.1 (C.2.2.2.2.1 _ hlk) (C.2.2.2.2.1 _ hnat) (C.2.2.2.2.1 _ hstat) (C.2.2.2.2.1 _ hini) (src := a0) (dst := a) (cs := vp_cell (tA T 4) (hn g a0, .inr (.inr (.inr (.inr (hr g a0)))))) (cd := vp_cell (tA T 4) (hn g a, .inr (.inr (.inr (.inr (hr g a)))))) (srcPos := sp) (destPos := dp) (n := n) (by rw [hT]; exact hc0) (by rw [hT]; exact hc1)
    (fun _ h => by cases h) (fun _ h => by cases h) (fun h => by cases h) (fun h => by cases h) hk0 hk9 hkk0 hkk9 (by simp [refKind]) k1 k2 k3
    (by rw [nn sp k1, nn n k3]; show ¬ _ > ((arrV (tA T 4) (hn g a0) (fun j => va_rf (hr g a0 j))).slots.size : Int); rw [arrV_size]; omega)
    (by rw [nn dp k2, nn n k3]; show ¬ _ > ((arrV (tA T 4) (hn g a) (fun j => va_rf (hr g a j))).slots.size : Int); rw [arrV_size]; omega)
    (fun vm₁ hal i hi9 => by
      have e : (vp_cell (tA T 4) (hn g a0, .inr (.inr (.inr (.inr (hr g a0)))))).slots.getD (sp.toNatClampNeg + i) .null = va_rf (hr g a0 (sp.toNatClampNeg + i)) := by
        show (arrV (tA T 4) (hn g a0) (fun j => va_rf (hr g a0 j))).slots.getD _ _ = _
        rw [Array.getD_eq_getD_getElem?, arrV_read _ _ (by omega)]
        rfl
      rw [e]
      cases hy : hr g a0 (sp.toNatClampNeg + i) with
      | none => exact ⟨rfl, trivial⟩
      | some y =>
        obtain ⟨r', hr', cellV, g1, g2, g3, -⟩ := cW_obj hw.2.2.1 (allst_of sc hi9 hy) (by decide) (by decide)
        have hcls := (B.1.1 3 _ (rfl : ccl[3]? = some (RX4, TX4, _))).2
        obtain ⟨kA, comp, r1, r2, r3, -⟩ := (B.1.2 4 _ rfl).2
        cases hk9.symm.trans r1
        cases hkk9.symm.trans r2
        have hcomp := Option.some.inj (r3.symm.trans hcls.1)
        obtain ⟨kC, hkC, -⟩ := hcls.2
        obtain ⟨kC', hkC', -⟩ := hal.2.2 _ _ hkC
        refine ⟨rfl, cellV, (show T9.heap[y]? = some cellV by rw [hT]; exact g1), (fun q h => by rw [g3] at h; cases h), ⟨kC', by rw [g2]; exact hkC'⟩, ⟨kC', by rw [hcomp]; exact hkC'⟩, ?_⟩
        show vm₁.assignable _ _ = true
        rw [hal.assignable, g2, hcomp]
        exact va_assign hcls)
    (g := F0 (kM K) pc ls (.int n :: .int dp :: .ref a :: .int sp :: .ref a0 :: rest)) rfl (by rw [C.2.2.1]; exact h9.1) (rest := rest) rfl (by rw [C.2.1]; exact dd) (by rw [dK]; exact hd) (by rw [dK]; show 2 * 0 + _ + _ ≤ 64 * dk; omega)
  have e1 : copied (vp_cell (tA T 4) (hn g a0, .inr (.inr (.inr (.inr (hr g a0)))))) (vp_cell (tA T 4) (hn g a, .inr (.inr (.inr (.inr (hr g a)))))) sp dp n = vp_cell (tA T 4) (hn g a, .inr (.inr (.inr (.inr (va_cpy (hr g a0) (hr g a) sp.toNatClampNeg dp.toNatClampNeg n.toNatClampNeg))))) := by
    rw [vp_cell_q, vp_cell_q, vp_cell_q]
    exact va_copied (fun z => va_rf z) (tA T 4) (tA T 4) (hr g a0) (hr g a) k4
  rw [e1] at X' step
  have h8 : a < H.size := (Array.getElem?_eq_some_iff.mp hc1).1
  generalize hC9 : vp_cell (tA T 4) (hn g a, .inr (.inr (.inr (.inr (va_cpy (hr g a0) (hr g a) sp.toNatClampNeg dp.toNatClampNeg n.toNatClampNeg))))) = C9 at X' step
  have oq : ∀ q : Nat, q ≠ a → (H.setIfInBounds a C9)[q]? = H[q]? := fun q hq => by simp [Array.getElem?_setIfInBounds, Ne.symm hq]
  have hheap : ((T9.setVm vm').setCell a C9).heap = H.setIfInBounds a C9 := by rw [← hT]; rfl
  have hcA := cW_cA hw.2.2.1 h1 (by decide) (by decide)
  obtain ⟨t, b1, b2⟩ := kk (H.setIfInBounds a C9) _ ce sl ls ⟨hw.1, hw.2.1, CWd.setG hw.2.2.1 (by rw [h1]; decide) (by rw [h1]; decide) (fun _ => rfl) (fun _ => rfl) rfl (fun q h => hr_wra_ne h) (by
      rw [h1, hr_wra_at]
      show (H.setIfInBounds a C9)[a]? = some _
      rw [← hC9]
      simp [Array.getElem?_setIfInBounds, h8]) (by simp) oq, ⟨by simp; exact hw.2.2.2.1, fun q g1 g2 => by
      rw [oq q (fun e => g2 (by rw [e]; exact hcA))]
      exact hw.2.2.2.2.1 q g1 g2, fun q hq => by
      rcases List.mem_append.mp hq with h | h
      · exact hw.2.2.2.2.2 q h
      · obtain ⟨z, -, hz⟩ := List.mem_map.mp h
        rw [← hz]
        exact hcA⟩⟩ h9 _ hheap X'
  exact ⟨t, step t b1, b2⟩
end SW2
