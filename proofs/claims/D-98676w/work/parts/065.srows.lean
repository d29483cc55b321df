/-! CELLS THAT ARE MADE, REFERENCES THAT ARE WRITTEN -/
/-- the length, under another name (where 'hn' is a hypothesis) -/
abbrev hnn (g : CG) (a : Nat) : Nat := hn g a
abbrev SR (R : Type) : Type := R × CG × CD × Nat × Nat
/-- so many cells and slots more -/
def tick {R : Type} (c s : Nat) (o : Option (SR R)) : Option (SR R) := o.map fun r => (r.1, r.2.1, r.2.2.1, r.2.2.2.1 + c, r.2.2.2.2 + s)
theorem pf_tk {R : Type} {c s : Nat} {o : Option (SR R)} {r : R} {g : CG} {d : CD} {k m : Nat} (hf : tick c s o = some (r, g, d, k, m)) : ∃ k' m', k = k' + c ∧ m = m' + s ∧ o = some (r, g, d, k', m') := by
  cases o with
  | none => cases hf
  | some x =>
    obtain ⟨r', g', d', k', m'⟩ := x
    have h := Option.some.inj hf
    simp only [Prod.mk.injEq] at h
    obtain ⟨rfl, rfl, rfl, h1, h2⟩ := h
    exact ⟨k', m', h1.symm, h2.symm, rfl⟩
theorem ht_na {g : CG} {t n : Nat} {b : Nat} : ht (na g t n) b = if b = hz g then t else ht g b := rfl
theorem hn_na {g : CG} {t n : Nat} {b : Nat} : hn (na g t n) b = if b = hz g then n else hn g b := rfl
theorem hr_na {g : CG} {t n : Nat} {b : Nat} : hr (na g t n) b = if b = hz g then (fun _ => none) else hr g b := rfl
theorem hi_nd {d : CD} {a b : Nat} : hi (nd d a) b = if b = a then (fun _ => 0) else hi d b := rfl
theorem hl_nd {d : CD} {a b : Nat} : hl (nd d a) b = if b = a then (fun _ => 0) else hl d b := rfl
theorem CWd.push {T : CT} {g : CG} {d : CD} {H H1 : Heap} {t n : Nat} (hw : CWd T g d H) (ht9 : t < 90 ∨ 100 ≤ t) (z : H1.size = H.size + 1) (o1 : ∀ q : Nat, q < H.size → H1[q]? = H[q]?) (hok : cOk T t n (fun _ => 0) (fun _ => 0) (fun _ => none) (hz g) H1) : CWd T (na g t n) (nd d (hz g)) H1 := by
  have hcA := cA_new hw (Nat.le_refl H.size)
  obtain ⟨w1, w2, w3, w4⟩ := hw
  refine ⟨by rw [z, w1]; rfl, Nat.le_succ_of_le w2, Nat.le_succ_of_le w3, fun q hq => ?_⟩
  by_cases e : q = hz g
  · rw [ht_na, hn_na, hr_na, hi_nd, hl_nd, if_pos e, if_pos e, if_pos e, if_pos e, if_pos e]
    refine ⟨by omega, ?_, fun _ => ?_, fun h => by omega⟩
    · rw [e]; exact hok
    · rw [e, ← w1]; exact hcA
  · rw [ht_na, if_neg e] at hq
    rw [ht_na, hn_na, hr_na, hi_nd, hl_nd, if_neg e, if_neg e, if_neg e, if_neg e, if_neg e]
    obtain ⟨u1, u2, u3, u4⟩ := w4 q hq
    refine ⟨by omega, cOk_kept u2 (o1 q u1), u3, fun h9 => ?_⟩
    obtain ⟨b, b1, b2, b3⟩ := u4 h9
    have hb : b < H.size := b3.lt
    have hbz : b ≠ hz g := by omega
    exact ⟨b, by rw [ht_na, if_neg hbz]; exact b1, b2.kept (o1 q u1), b3.kept (o1 b hb)⟩
theorem vaS_push {A : Nat → Prop} {H0 H H1 : Heap} {lo : List Loc} (hS : va_S A H0 H lo) (z : H1.size = H.size + 1) (o1 : ∀ q : Nat, q < H.size → H1[q]? = H[q]?) : va_S A H0 H1 lo := ⟨Nat.le_trans hS.1 (by omega), fun x h1 h2 => (o1 x (Nat.lt_of_lt_of_le h1 hS.1)).trans (hS.2.1 x h1 h2), hS.2.2⟩
section SW
variable {K : KT} {T : CT} {c0 s0 c1 s1 dk : Nat} {g : CG} {d : CD} {cc : ByteArray} {nL : Nat} {own : String} {pc : Nat} {L : List (Nat × Value)} {rest : List Value} {a : Nat}
theorem c_new {t N idx : Nat} {Cn : String} {Tt : u_T} (tyf : Nat → FieldType) (C : Kok K cc nL own) (B : CB K T) (hcl : Cond.classLink own idx Cn ∈ lw_all) (hins : Cond.instantiable Cn N ∈ lw_all) (hini : Cond.initialized Cn ∈ lw_all) (h90 : t < 90) (hc : ccl[t - 1]? = some (Cn, Tt, N)) (hin : ∀ w ∈ u_ws Cn Tt N, w ∈ lw_all) (hty : ∀ k, k < N → parseFieldDescriptor (Tt k).2.2.1 = some (tyf k)) (hdef : ∀ k, k < N → defaultValue (tyf k) = vp_V (cFs (fun _ => 0) (fun _ => 0) (fun _ => none) (ckd t) 0) k) (dK : kR K = rmC dk c1 s1) (hcs : c0 + 1 ≤ c1 ∧ s0 + N ≤ s1)
    (dd : decode cc pc = .ok (.new idx, 3)) (kk : XJ K nL (Wc K T (c0 + 1) (s0 + N) (na g t 0) (nd d (hz g))) (pc + 3) L (.ref (hz g) :: rest)) : XJ K nL (Wc K T c0 s0 g d) pc L rest := by
  intro H lo ce sl ls hw h9
  have hts := C.2.2.2.2.1
  have hKn := B.1.1 (t - 1) _ hc
  have hcc := c_cells (mc := 1) (ms := N) hw dK hcs
  refine W.newcK C.1 C.2.1 C.2.2.2.1 (hts _ hcl) (hts _ hins) (hts _ hini) rfl dd hcc.1 hcc.2 hKn.2.1 rfl fun H1 kC hkC e1 z1 o1 => ?_
  rw [hw.2.2.1.1] at e1 ⊢
  refine kk H1 lo _ _ ls ⟨by rw [hw.1], by rw [hw.2.1], CWd.push hw.2.2.1 (Or.inl h90) z1 o1 ?_, vaS_push hw.2.2.2 z1 o1⟩ h9
  unfold cOk
  rw [if_pos h90]
  exact ⟨_, hc, (u_born tyf hts hin hKn hkC e1 hty).to hdef⟩
theorem c_newarr {atype : ArrayType} {ty : FieldType} {i : Int32} (k9 N : Nat) (C : Kok K cc nL own) (B : CB K T) (hty : newarray.typeOf atype = ty) (hac : Cond.arrayClass ty ∈ lw_all) (hk : (cTy T)[k9]? = some (tA T k9, ty)) (hra : va_RA (kS K) (tA T k9) ty = ((kS K).vm.findClass ("[" ++ ty.toString) = some (tA T k9))) (hok : ∀ H1 : Heap, H1[hz g]? = some (arrV (tA T k9) N (fun _ => defaultValue ty)) → cOk T (100 + k9) N (fun _ => 0) (fun _ => 0) (fun _ => none) (hz g) H1) (hn0 : ¬ i < 0) (hN : i.toNatClampNeg = N) (hb : N * componentBytes ty ≤ 536870912) (dK : kR K = rmC dk c1 s1) (hcs : c0 + 1 ≤ c1 ∧ s0 + N ≤ s1)
    (dd : decode cc pc = .ok (.newarray atype, 2)) (kk : XJ K nL (Wc K T (c0 + 1) (s0 + N) (na g (100 + k9) N) (nd d (hz g))) (pc + 2) L (.ref (hz g) :: rest)) : XJ K nL (Wc K T c0 s0 g d) pc L (.int i :: rest) := by
  intro H lo ce sl ls hw h9
  subst hty
  have hts := C.2.2.2.2.1
  have hcc := c_cells (mc := 1) (ms := N) hw dK hcs
  refine va_newaK C.1 C.2.1 (hts _ hac) rfl dd rfl hn0 hN hb hcc.1 hcc.2 hw.2.2.1.1 fun H1 cA9 e1 z1 o1 hAr hNm => ?_
  have hra2 := (B.1.2 k9 _ hk).2
  rw [hra] at hra2
  have hcA9 : cA9 = tA T k9 := Option.some.inj (hNm.symm.trans hra2)
  subst hcA9
  rw [← hw.2.2.1.1] at z1 o1
  exact kk H1 lo _ _ ls ⟨by rw [hw.1], by rw [hw.2.1], CWd.push hw.2.2.1 (Or.inr (Nat.le_add_right 100 k9)) z1 o1 (hok H1 e1), vaS_push hw.2.2.2 z1 o1⟩ h9
theorem okN {b : Nat} {H1 : Heap} {k9 N : Nat} (h3 : k9 < 4) (h1 : k9 ≠ 1) (e : H1[b]? = some (arrV (tA T k9) N (fun _ => .int 0))) : cOk T (100 + k9) N (fun _ => 0) (fun _ => 0) (fun _ => none) b H1 := by
  unfold cOk
  rw [if_neg (by omega), if_neg (by omega), if_neg (by omega), if_neg (by omega), if_pos (by omega), Nat.add_sub_cancel_left]
  exact e
theorem okL {b : Nat} {H1 : Heap} {N : Nat} (e : H1[b]? = some (arrV (tA T 1) N (fun _ => .long 0))) : cOk T 101 N (fun _ => 0) (fun _ => 0) (fun _ => none) b H1 := e
theorem okR {b : Nat} {H1 : Heap} {k9 N : Nat} (h3 : 4 ≤ k9) (e : H1[b]? = some (arrV (tA T k9) N (fun _ => .null))) : cOk T (100 + k9) N (fun _ => 0) (fun _ => 0) (fun _ => none) b H1 := by
  unfold cOk
  rw [if_neg (by omega), if_neg (by omega), if_neg (by omega), if_neg (by omega), if_neg (by omega), Nat.add_sub_cancel_left]
  exact e
def naok (i : Int32) : Bool := decide (¬ i < 0) && decide (i.toNatClampNeg ≤ 1000)
theorem naok_of {i : Int32} (h : naok i = true) : ¬ i < 0 ∧ i.toNatClampNeg ≤ 1000 := by
  unfold naok at h
  simp only [Bool.and_eq_true, decide_eq_true_eq] at h
  exact h
theorem c_newI {i : Int32} (C : Kok K cc nL own) (B : CB K T) (h : naok i = true) (dK : kR K = rmC dk c1 s1) (hcs : c0 + 1 ≤ c1 ∧ s0 + i.toNatClampNeg ≤ s1) (dd : decode cc pc = .ok (.newarray .int, 2)) (kk : XJ K nL (Wc K T (c0 + 1) (s0 + i.toNatClampNeg) (na g 100 i.toNatClampNeg) (nd d (hz g))) (pc + 2) L (.ref (hz g) :: rest)) : XJ K nL (Wc K T c0 s0 g d) pc L (.int i :: rest) := c_newarr (ty := .int) 0 i.toNatClampNeg C B rfl q394 rfl rfl (fun H1 e => okN (k9 := 0) (by decide) (by decide) e) (naok_of h).1 rfl (Nat.le_trans (Nat.mul_le_mul_right _ (naok_of h).2) (by decide)) dK hcs dd kk
theorem c_newJ {i : Int32} (C : Kok K cc nL own) (B : CB K T) (h : naok i = true) (dK : kR K = rmC dk c1 s1) (hcs : c0 + 1 ≤ c1 ∧ s0 + i.toNatClampNeg ≤ s1) (dd : decode cc pc = .ok (.newarray .long, 2)) (kk : XJ K nL (Wc K T (c0 + 1) (s0 + i.toNatClampNeg) (na g 101 i.toNatClampNeg) (nd d (hz g))) (pc + 2) L (.ref (hz g) :: rest)) : XJ K nL (Wc K T c0 s0 g d) pc L (.int i :: rest) := c_newarr (ty := .long) 1 i.toNatClampNeg C B rfl q393 rfl rfl (fun H1 e => okL e) (naok_of h).1 rfl (Nat.le_trans (Nat.mul_le_mul_right _ (naok_of h).2) (by decide)) dK hcs dd kk
theorem c_newZ {i : Int32} (C : Kok K cc nL own) (B : CB K T) (h : naok i = true) (dK : kR K = rmC dk c1 s1) (hcs : c0 + 1 ≤ c1 ∧ s0 + i.toNatClampNeg ≤ s1) (dd : decode cc pc = .ok (.newarray .boolean, 2)) (kk : XJ K nL (Wc K T (c0 + 1) (s0 + i.toNatClampNeg) (na g 102 i.toNatClampNeg) (nd d (hz g))) (pc + 2) L (.ref (hz g) :: rest)) : XJ K nL (Wc K T c0 s0 g d) pc L (.int i :: rest) := c_newarr (ty := .boolean) 2 i.toNatClampNeg C B rfl q395 rfl rfl (fun H1 e => okN (k9 := 2) (by decide) (by decide) e) (naok_of h).1 rfl (Nat.le_trans (Nat.mul_le_mul_right _ (naok_of h).2) (by decide)) dK hcs dd kk
theorem c_newB {i : Int32} (C : Kok K cc nL own) (B : CB K T) (h : naok i = true) (dK : kR K = rmC dk c1 s1) (hcs : c0 + 1 ≤ c1 ∧ s0 + i.toNatClampNeg ≤ s1) (dd : decode cc pc = .ok (.newarray .byte, 2)) (kk : XJ K nL (Wc K T (c0 + 1) (s0 + i.toNatClampNeg) (na g 103 i.toNatClampNeg) (nd d (hz g))) (pc + 2) L (.ref (hz g) :: rest)) : XJ K nL (Wc K T c0 s0 g d) pc L (.int i :: rest) := c_newarr (ty := .byte) 3 i.toNatClampNeg C B rfl q232 rfl rfl (fun H1 e => okN (k9 := 3) (by decide) (by decide) e) (naok_of h).1 rfl (Nat.le_trans (Nat.mul_le_mul_right _ (naok_of h).2) (by decide)) dK hcs dd kk
/-- an array of references -/
theorem c_anew {i : Int32} {idx : Nat} {Cn : String} (k9 : Nat) (C : Kok K cc nL own) (B : CB K T) (h4 : 4 ≤ k9) (hk : (cTy T)[k9]? = some (tA T k9, .object Cn)) (hcl : Cond.classLink own idx Cn ∈ lw_all) (hov : va_AO Cn (kS K)) (h : naok i = true) (dK : kR K = rmC dk c1 s1) (hcs : c0 + 1 ≤ c1 ∧ s0 + i.toNatClampNeg ≤ s1) (dd : decode cc pc = .ok (.anewarray idx, 3)) (kk : XJ K nL (Wc K T (c0 + 1) (s0 + i.toNatClampNeg) (na g (100 + k9) i.toNatClampNeg) (nd d (hz g))) (pc + 3) L (.ref (hz g) :: rest)) : XJ K nL (Wc K T c0 s0 g d) pc L (.int i :: rest) := by
  intro H lo ce sl ls hw h9
  have hts := C.2.2.2.2.1
  have hcc := c_cells (mc := 1) (ms := i.toNatClampNeg) hw dK hcs
  have hb : i.toNatClampNeg * 4 ≤ 536870912 := Nat.le_trans (Nat.mul_le_mul_right _ (naok_of h).2) (by decide)
  refine W.anew C.1 C.2.1 C.2.2.2.1 (hts _ hcl) (va_AO.use hov) rfl dd rfl (naok_of h).1 hb hcc.1 hcc.2 fun cA9 kA comp f1 f2 f3 f4 => ?_
  obtain ⟨kA', comp', k1, k2, k3, k4⟩ := (B.1.2 k9 _ hk).2
  have hcA9 : cA9 = tA T k9 := Option.some.inj (f1.symm.trans k4)
  subst hcA9
  generalize hH1 : H.push ({ cls := tA T k9, slots := Array.replicate i.toNatClampNeg .null, vm := .none } : Cell) = H1
  have z1 : H1.size = H.size + 1 := by rw [← hH1, Array.size_push]
  have e1 : H1[H.size]? = some (arrV (tA T k9) i.toNatClampNeg (fun _ => .null)) := by rw [← hH1, Array.getElem?_push_size, ← arrV_new]
  have o1 : ∀ q : Nat, q < H.size → H1[q]? = H[q]? := fun q hq => by rw [← hH1, Array.getElem?_push, if_neg (Nat.ne_of_lt hq)]
  rw [hw.2.2.1.1] at e1 ⊢
  exact kk H1 lo _ _ ls ⟨by rw [hw.1], by rw [hw.2.1], CWd.push hw.2.2.1 (Or.inr (Nat.le_add_right 100 k9)) z1 o1 (okR h4 e1), vaS_push hw.2.2.2 z1 o1⟩ h9
theorem CWd.setG {g' : CG} {H H1 : Heap} (hw : CWd T g d H) (h0 : ht g a ≠ 0) (h90 : ht g a ≠ 90) (e1 : ∀ q, ht g' q = ht g q) (e2 : ∀ q, hn g' q = hn g q) (e3 : hz g' = hz g) (e4 : ∀ q, q ≠ a → hr g' q = hr g q) (he : cOk T (ht g a) (hn g a) (hi d a) (hl d a) (hr g' a) a H1) (z : H1.size = H.size) (oq : ∀ q : Nat, q ≠ a → H1[q]? = H[q]?) : CWd T g' d H1 := by
  obtain ⟨w1, w2, w3, w4⟩ := hw
  refine ⟨by rw [z, e3]; exact w1, by rw [e3]; exact w2, by rw [e3]; exact w3, fun q hq => ?_⟩
  rw [e1] at hq
  rw [e1, e2]
  obtain ⟨u1, u2, u3, u4⟩ := w4 q hq
  refine ⟨by rw [z]; exact u1, ?_, u3, fun e9 => ?_⟩
  · by_cases e : q = a
    · subst e; exact he
    · rw [e4 q e]; exact cOk_kept u2 (oq q e)
  · obtain ⟨b, b1, b2, b3⟩ := u4 e9
    have hqa : q ≠ a := fun e => h90 (by rw [← e]; exact e9)
    have hba : b ≠ a := fun e => h0 (by rw [← e]; exact b1)
    exact ⟨b, by rw [e1]; exact b1, b2.kept (oq q hqa), b3.kept (oq b hba)⟩
theorem hr_wr_at {k : Nat} {v : Option Nat} : hr (wr g a k v) a = va_up (hr g a) k v := by funext j; simp only [hr, wr, if_true]; rfl
theorem hr_wr_ne {k : Nat} {v : Option Nat} {b : Nat} (h : b ≠ a) : hr (wr g a k v) b = hr g b := by funext j; simp [hr, wr, h]
theorem cFs_wr {fi : Nat → Int32} {fl : Nat → Int64} {fr : Nat → Option Nat} (v : Option Nat) : ∀ (ks : List Nat) (o k : Nat), ks[k]? = some 2 → cFs fi fl (va_up fr (o + k) v) ks o = (cFs fi fl fr ks o).set k (va_rf v) := by
  intro ks
  induction ks with
  | nil => intro o k h; simp at h
  | cons x xs ih =>
    intro o k h
    have tail : ∀ (ys : List Nat) (o2 j : Nat), j < o2 → cFs fi fl (va_up fr j v) ys o2 = cFs fi fl fr ys o2 := by
      intro ys
      induction ys with
      | nil => intro o2 j _; rfl
      | cons y ys ih2 =>
        intro o2 j hj
        have hne : o2 ≠ j := by omega
        simp only [cFs, ih2 (o2 + 1) j (by omega), va_up, if_neg hne]
    cases k with
    | zero =>
      have hx : x = 2 := by simpa using h
      subst hx
      simp only [cFs, Nat.add_zero, List.set_cons_zero, tail xs (o + 1) o (by omega), va_up, if_true, cvl]
    | succ k =>
      have h' : xs[k]? = some 2 := by simpa using h
      have e : o + (k + 1) = o + 1 + k := by omega
      simp only [cFs, List.set_cons_succ]
      rw [e, ih (o + 1) k h']
      congr 1
      have hne : o ≠ o + 1 + k := by omega
      simp only [va_up, if_neg hne]
theorem c_ptail {g' : CG} {d' : CD} {t k N : Nat} {Cn : String} {Tt : u_T} {v : Value} {cell : Cell} {f : Field} (tyf : Nat → FieldType) {H : Heap} {lo : List Loc} {ce sl : Nat} {ls : Array Slot} (C : Kok K cc nL own) (B : CB K T) (hw : Wc K T c0 s0 g d H lo ce sl) (h9 : lv_has ls nL L) (hta : ht g a = t) (h0 : t ≠ 0) (h90 : t < 90) (hc : ccl[t - 1]? = some (Cn, Tt, N)) (hin : ∀ w ∈ u_ws Cn Tt N, w ∈ lw_all) (hty : ∀ k, k < N → parseFieldDescriptor (Tt k).2.2.1 = some (tyf k)) (hk : k < N) (hnm : ∀ j, j < N → j ≠ k → (Tt j).2.1 ≠ (Tt k).2.1)
    (q2 : cell.cls = (tD T).1 (t - 1)) (q3 : cell.vm = .none) (q4 : ∀ j, j < N → cell.slots[(tD T).2 (t - 1) j]? = some (vp_V (cFs (hi d a) (hl d a) (hr g a) (ckd t) 0) j)) {cf : ClassId} {kf : Class} {fi9 : Nat} (hi9 : (kS K).fieldFound? (Tt k).1 (Tt k).2.1 (Tt k).2.2.1 = some (cf, kf, fi9, f)) (hsl : f.slot = (tD T).2 (t - 1) k) (hlen : k < (ckd t).length)
    (hset : cFs (hi d' a) (hl d' a) (hr g' a) (ckd t) 0 = (cFs (hi d a) (hl d a) (hr g a) (ckd t) 0).set k v) (hW : ∀ H H1 : Heap, CWd T g d H → cOk T t (hn g a) (hi d' a) (hl d' a) (hr g' a) a H1 → H1.size = H.size → (∀ q : Nat, q ≠ a → H1[q]? = H[q]?) → CWd T g' d' H1) (kk : XJ K nL (Wc K T c0 s0 g' d') (pc + 3) L rest) :
    ∀ H' : Heap, H'[a]? = some (cell.setSlot f.slot v) → H'.size = H.size → (∀ q, q ≠ a → H'[q]? = H[q]?) → WK K H' (lo ++ [⟨a, f.slot⟩]) ce sl (F0 (kM K) (pc + 3) ls rest) := by
  have hts := C.2.2.2.2.1
  obtain ⟨hS, hfc, kC, hkC, hkind⟩ := B.1.1 (t - 1) _ hc
  have hap : ∀ b, b < N → b ≠ k → (tD T).2 (t - 1) b ≠ (tD T).2 (t - 1) k := by
    intro b hb hne
    obtain ⟨_, _, _, fa, hia, ea⟩ := hS b hb
    rw [← ea, ← hsl]
    refine u_apart (u_lays hts hin hb) (u_lays hts hin hk) hia hi9 ?_
    rw [(State.fieldFound?_type hia (hty b hb)).1, (State.fieldFound?_type hi9 (hty k hk)).1]
    exact hnm b hb hne
  intro H' e1 e2 e3
  rw [hsl] at e1 ⊢
  refine kk H' _ ce sl ls ⟨hw.1, hw.2.1, hW H H' hw.2.2.1 ?_ e2 e3, hw.2.2.2.put e2 e3 (cW_cA hw.2.2.1 hta h0 (Or.inl h90))⟩ h9
  unfold cOk
  rw [if_pos h90, hset]
  exact ⟨_, hc, t_OB.to (V := updV (vp_V (cFs (hi d a) (hl d a) (hr g a) (ckd t) 0)) k v) ⟨_, e1, q2, q3, t_set1 q4 hap hk v⟩ (fun j _ => vp_updV_set (by rw [cFs_len]; exact hlen) v j)⟩
/-- a field is written (not final) -/
theorem c_putG {g' : CG} {d' : CD} {t k idx N : Nat} {Cn ref : String} {Tt : u_T} {ty : FieldType} {v : Value} (tyf : Nat → FieldType) (C : Kok K cc nL own) (B : CB K T) (hta : ht g a = t) (h0 : t ≠ 0) (h90 : t < 90) (hc : ccl[t - 1]? = some (Cn, Tt, N)) (hin : ∀ w ∈ u_ws Cn Tt N, w ∈ lw_all) (hty : ∀ k, k < N → parseFieldDescriptor (Tt k).2.2.1 = some (tyf k)) (hk : k < N) (hnm : ∀ j, j < N → j ≠ k → (Tt j).2.1 ≠ (Tt k).2.1) (hlk : FLk K own idx ref (Tt k).2.1 (Tt k).2.2.1) (hsm : FSm K ref (Tt k).1 (Tt k).2.1 (Tt k).2.2.1) (hfin : (Tt k).2.2.2 = false) (hd : parseFieldDescriptor (Tt k).2.2.1 = some ty) (hn : narrow ty v = v) (hfit : fits ty v = true) (hlen : k < (ckd t).length)
    (hset : cFs (hi d' a) (hl d' a) (hr g' a) (ckd t) 0 = (cFs (hi d a) (hl d a) (hr g a) (ckd t) 0).set k v) (hW : ∀ H H1 : Heap, CWd T g d H → cOk T t (hnn g a) (hi d' a) (hl d' a) (hr g' a) a H1 → H1.size = H.size → (∀ q : Nat, q ≠ a → H1[q]? = H[q]?) → CWd T g' d' H1)
    (dd : decode cc pc = .ok (.putfield idx, 3)) (kk : XJ K nL (Wc K T c0 s0 g' d') (pc + 3) L rest) : XJ K nL (Wc K T c0 s0 g d) pc L (v :: .ref a :: rest) := by
  intro H lo ce sl ls hw h9
  have hts := C.2.2.2.2.1
  obtain ⟨r, e1, cell, q1, q2, q3, q4⟩ := cW_obj hw.2.2.1 hta h0 h90
  have hr : r = (Cn, Tt, N) := Option.some.inj (e1.symm.trans hc)
  subst hr
  obtain ⟨hS, hfc, kC, hkC, hkind⟩ := B.1.1 (t - 1) _ hc
  obtain ⟨cf, kf, fi9, f, hi9, hsl⟩ := hS k hk
  have hlay := hts _ (hin _ (u_in_lay hk))
  unfold u_lay at hlay
  rw [if_neg (by rw [hfin]; decide)] at hlay
  have hst := (u_facts hfc hkC (u_lays hts hin hk) hi9).1
  have h6 := u_store hfc hkC hkind hlay hi9 hd hn hfit
  have fin := c_ptail (f := f) (v := v) tyf C B hw h9 hta h0 h90 hc hin hty hk hnm q2 q3 q4 hi9 hsl hlen hset hW kk
  rcases hlk with hlk | ⟨host, hlk⟩
  · exact W.putK C.1 C.2.1 (f := f) ⟨C.2.2.2.1, hlk, ⟨_, _, _, hsm _ hi9⟩, hst⟩ (by rw [q2]; exact h6) q1 q3 (by rw [hsl]; exact k2_hasslot (q4 k hk)) rfl rfl dd fin
  · exact va_WputK C.1 C.2.1 (f := f) C.2.2.2.1 hlk (hsm _ hi9) hst (by rw [q2]; exact h6) q1 q3 (by rw [hsl]; exact k2_hasslot (q4 k hk)) rfl rfl dd fin
/-- a final field, in its own constructor -/
theorem c_putF {g' : CG} {d' : CD} {t k idx N : Nat} {Cn ref : String} {Tt : u_T} {ty : FieldType} {v : Value} (tyf : Nat → FieldType) (C : Kok K cc nL own) (B : CB K T) (hta : ht g a = t) (h0 : t ≠ 0) (h90 : t < 90) (hc : ccl[t - 1]? = some (Cn, Tt, N)) (hin : ∀ w ∈ u_ws Cn Tt N, w ∈ lw_all) (hty : ∀ k, k < N → parseFieldDescriptor (Tt k).2.2.1 = some (tyf k)) (hk : k < N) (hnm : ∀ j, j < N → j ≠ k → (Tt j).2.1 ≠ (Tt k).2.1) (hlk : Cond.fieldLink own idx ref (Tt k).2.1 (Tt k).2.2.1 ∈ lw_all) (hsm : FSm K ref (Tt k).1 (Tt k).2.1 (Tt k).2.2.1) (hfin : (Tt k).2.2.2 = true) (hini : (kMe K).name = "<init>") (hdecl : (Tt k).1 = own) (hd : parseFieldDescriptor (Tt k).2.2.1 = some ty) (hn : narrow ty v = v) (hfit : fits ty v = true) (hlen : k < (ckd t).length)
    (hset : cFs (hi d' a) (hl d' a) (hr g' a) (ckd t) 0 = (cFs (hi d a) (hl d a) (hr g a) (ckd t) 0).set k v) (hW : ∀ H H1 : Heap, CWd T g d H → cOk T t (hnn g a) (hi d' a) (hl d' a) (hr g' a) a H1 → H1.size = H.size → (∀ q : Nat, q ≠ a → H1[q]? = H[q]?) → CWd T g' d' H1)
    (dd : decode cc pc = .ok (.putfield idx, 3)) (kk : XJ K nL (Wc K T c0 s0 g' d') (pc + 3) L rest) : XJ K nL (Wc K T c0 s0 g d) pc L (v :: .ref a :: rest) := by
  intro H lo ce sl ls hw h9
  have hts := C.2.2.2.2.1
  obtain ⟨r, e1, cell, q1, q2, q3, q4⟩ := cW_obj hw.2.2.1 hta h0 h90
  have hr : r = (Cn, Tt, N) := Option.some.inj (e1.symm.trans hc)
  subst hr
  obtain ⟨hS, hfc, kC, hkC, hkind⟩ := B.1.1 (t - 1) _ hc
  obtain ⟨cf, kf, fi9, f, hi9, hsl⟩ := hS k hk
  have hlay := hts _ (hin _ (u_in_lay hk))
  unfold u_lay at hlay
  rw [if_pos hfin] at hlay
  have hst := (u_facts hfc hkC (u_lays hts hin hk) hi9).1
  have hcf : (kM K).cls = cf := by
    obtain ⟨_, _, c', _, _, _, -, -, hf', -, -, -, hown2, -⟩ := Cond.laysFinal_spec hlay
    have e1 : c' = cf := by have := hi9.symm.trans hf'; simp at this; exact this.1.symm
    rw [hdecl] at hown2
    rw [← e1]; exact Option.some.inj (C.2.2.2.1.symm.trans hown2)
  have h6 := u_fits hfc hkC hkind (Or.inr hlay) hi9 hd hn hfit
  have fin := c_ptail (f := f) (v := v) tyf C B hw h9 hta h0 h90 hc hin hty hk hnm q2 q3 q4 hi9 hsl hlen hset hW kk
  exact W.putFinK C.1 C.2.1 C.2.2.2.1 (hts _ hlk) (hsm _ hi9) hst hcf hini (by rw [q2]; exact h6) q1 q3 (by rw [hsl]; exact k2_hasslot (q4 k hk)) rfl rfl dd fin
theorem hW_r {t k : Nat} {v : Option Nat} (hta : ht g a = t) (h0 : t ≠ 0) (h90 : t < 90) : ∀ H H1 : Heap, CWd T g d H → cOk T t (hn g a) (hi d a) (hl d a) (hr (wr g a k v) a) a H1 → H1.size = H.size → (∀ q : Nat, q ≠ a → H1[q]? = H[q]?) → CWd T (wr g a k v) d H1 := fun H H1 hw he z oq => CWd.setG hw (by rw [hta]; exact h0) (by rw [hta]; omega) (fun _ => rfl) (fun _ => rfl) rfl (fun q h => hr_wr_ne h) (by rw [hta]; exact he) z oq
theorem hW_i {t k : Nat} {v : Int32} (hta : ht g a = t) (h0 : t ≠ 0) (h90 : t < 90) : ∀ H H1 : Heap, CWd T g d H → cOk T t (hn g a) (hi (wi d a k v) a) (hl (wi d a k v) a) (hr g a) a H1 → H1.size = H.size → (∀ q : Nat, q ≠ a → H1[q]? = H[q]?) → CWd T g (wi d a k v) H1 := fun H H1 hw he z oq => CWd.set hw (by rw [hta]; exact h0) (by rw [hta]; omega) (by rw [hta]; exact he) z oq (fun q h => hi_ne h) (fun q h => hl_wi)
theorem c_renG {g1 g2 : CG} {st : List Value} (h : g1 = g2) (k : XJ K nL (Wc K T c0 s0 g1 d) pc L st) : XJ K nL (Wc K T c0 s0 g2 d) pc L st := h ▸ k
theorem arr_updR {H1 : Heap} {cA9 : ClassId} {n j v : Nat} {f : Nat → Option Nat} (e : H1[a]? = some ((arrV cA9 n (fun j => va_rf (f j))).setSlot j (.ref v))) : H1[a]? = some (vp_cell cA9 (n, .inr (.inr (.inr (.inr (va_up f j (some v))))))) := by
  rw [e, vp_cell_q, arrV_store]
  congr 2
  funext q
  by_cases hq : q = j
  · subst hq; simp [updV, va_up, va_rf]
  · simp [updV, va_up, hq]
theorem c_asttail {i : Int32} {v k9 : Nat} {H H1 : Heap} {lo : List Loc} {ce sl : Nat} {ls : Array Slot} (hw : Wc K T c0 s0 g d H lo ce sl) (h9 : lv_has ls nL L) (h4 : 4 ≤ k9) (hta : ht g a = 100 + k9) (e : H1[a]? = some ((arrV (tA T k9) (hn g a) (fun j => va_rf (hr g a j))).setSlot i.toNatClampNeg (.ref v))) (z : H1.size = H.size) (oq : ∀ q : Nat, q ≠ a → H1[q]? = H[q]?)
    (kk : XJ K nL (Wc K T c0 s0 (wr g a i.toNatClampNeg (some v)) d) (pc + 1) L rest) : WK K H1 (lo ++ [⟨a, i.toNatClampNeg⟩]) ce sl (F0 (kM K) (pc + 1) ls rest) := by
  refine kk H1 _ ce sl ls ⟨hw.1, hw.2.1, CWd.setG hw.2.2.1 (by rw [hta]; omega) (by rw [hta]; omega) (fun _ => rfl) (fun _ => rfl) rfl (fun q h => hr_wr_ne h) ?_ z oq, hw.2.2.2.put z oq (cW_cA hw.2.2.1 hta (by omega) (by omega))⟩ h9
  rw [hta]
  unfold cOk
  rw [if_neg (by omega), if_neg (by omega), if_neg (by omega), if_neg (by omega), if_neg (by omega), Nat.add_sub_cancel_left, hr_wr_at]
  exact arr_updR e
theorem cW_arq9 {H : Heap} {k9 : Nat} (hw : CWd T g d H) (hta : ht g a = 100 + k9) (h4 : 4 ≤ k9) : H[a]? = some (arrV (tA T k9) (hn g a) (fun j => va_rf (hr g a j))) := by
  have h := cW_arq hw hta (by omega)
  rw [Nat.add_sub_cancel_left] at h
  exact h
/-- an object goes into an array of references -/
theorem c_ast {i : Int32} {v t N : Nat} {Cn Cv : String} {Tt : u_T} (k9 : Nat) (C : Kok K cc nL own) (B : CB K T) (h4 : 4 ≤ k9) (hta : ht g a = 100 + k9) (hk : (cTy T)[k9]? = some (tA T k9, .object Cn)) (htv : ht g v = t) (h0 : t ≠ 0) (h90 : t < 90) (hc : ccl[t - 1]? = some (Cv, Tt, N)) (hca : Cv = Cn ∨ Cond.castable Cv Cn ∈ lw_tbl) (hin : vp_in i (hn g a)) (dd : decode cc pc = .ok (.aastore, 1)) (kk : XJ K nL (Wc K T c0 s0 (wr g a i.toNatClampNeg (some v)) d) (pc + 1) L rest) : XJ K nL (Wc K T c0 s0 g d) pc L (.ref v :: .int i :: .ref a :: rest) := by
  intro H lo ce sl ls hw h9
  have hlt : i.toNatClampNeg < hn g a := Nat.not_le.mp fun q => hin (Or.inr q)
  have hi0 : ¬ i < 0 := fun q => hin (Or.inl q)
  have ho := cW_arq9 hw.2.2.1 hta h4
  obtain ⟨r', hr', cellV, g1, g2, g3, -⟩ := cW_obj hw.2.2.1 htv h0 h90
  have hcls := (B.1.1 (t - 1) _ hc).2
  obtain ⟨kA9, comp, k1, k2, k3, -⟩ := (B.1.2 k9 _ hk).2
  obtain ⟨kE, hkE, -⟩ := Vm.findClass_spec k3
  obtain ⟨kC, hkC, -⟩ := hcls.2
  have hass : (kS K).vm.assignable ((tD T).1 (t - 1)) comp = true := by
    rcases hca with e | hca
    · subst e
      have hcomp : comp = (tD T).1 (t - 1) := Option.some.inj (k3.symm.trans hcls.1)
      rw [hcomp]; exact va_assign hcls
    · obtain ⟨c0, t1, f1, f2, f3⟩ := Cond.castable_spec (va_Nw.use (A := kA K) rfl (B.2.1.1 _ (nw_in hca rfl)))
      cases hcls.1.symm.trans f1
      cases k3.symm.trans f2
      exact f3
  exact W.aast C.1 C.2.1 ho (fun q h => by cases h) (fun h => by cases h) k1 k2 rfl hkE ⟨hi0, by show _ < (arrV _ _ _).slots.size; rw [arrV_size]; exact hlt⟩ g1 (fun q h => by rw [g3] at h; cases h) (by rw [g2]; exact hkC) (by rw [g2]; exact hass) rfl rfl dd fun H1 e z oq => c_asttail hw h9 h4 hta e z oq kk
/-- a text goes into an array of texts -/
theorem c_astS {i : Int32} {v : Nat} (C : Kok K cc nL own) (B : CB K T) (hta : ht g a = 109) (htv : ht g v = 90) (hin : vp_in i (hn g a)) (dd : decode cc pc = .ok (.aastore, 1)) (kk : XJ K nL (Wc K T c0 s0 (wr g a i.toNatClampNeg (some v)) d) (pc + 1) L rest) : XJ K nL (Wc K T c0 s0 g d) pc L (.ref v :: .int i :: .ref a :: rest) := by
  intro H lo ce sl ls hw h9
  have hlt : i.toNatClampNeg < hn g a := Nat.not_le.mp fun q => hin (Or.inr q)
  have hi0 : ¬ i < 0 := fun q => hin (Or.inl q)
  have ho := cW_arq9 (k9 := 9) hw.2.2.1 hta (by decide)
  obtain ⟨b, hb, hs⟩ := cW_str hw.2.2.1 htv
  obtain ⟨r', hr', cellV, g1, g2, g3, -⟩ := hs.1
  have hcls := (B.1.1 20 _ (rfl : ccl[20]? = some (RJ3, TJ3, 2))).2
  obtain ⟨kA, comp, k1, k2, k3, -⟩ := (B.1.2 9 _ rfl).2
  obtain ⟨kC, hkC, -⟩ := hcls.2
  have hcomp : comp = (tD T).1 20 := Option.some.inj (k3.symm.trans hcls.1)
  subst hcomp
  exact W.aast C.1 C.2.1 ho (fun q h => by cases h) (fun h => by cases h) k1 k2 rfl hkC ⟨hi0, by show _ < (arrV _ _ _).slots.size; rw [arrV_size]; exact hlt⟩ g1 (fun q h => by rw [g3] at h; cases h) (by rw [g2]; exact hkC) (by rw [g2]; exact va_assign hcls) rfl rfl dd fun H1 e z oq => c_asttail (k9 := 9) hw h9 (by decide) hta e z oq kk
theorem c_objI {idx : Nat} (C : Kok K cc nL own) (hlk : Cond.methodLink own idx objectInit ∈ lw_all) (dK : kR K = rmC dk c1 s1) (hd : 1 ≤ dk) (hW : (rest.map fun v => v.category).sum ≤ 8) (dd : decode cc pc = .ok (.invokespecial idx, 3)) (kk : XJ K nL (Wc K T c0 s0 g d) (pc + 3) L rest) : XJ K nL (Wc K T c0 s0 g d) pc L (.ref a :: rest) := fun H lo ce sl ls hw h9 => W.objInit C.1 C.2.1 C.2.2.2.1 (C.2.2.2.2.1 _ hlk) (C.2.2.2.2.1 _ q162) (C.2.2.2.2.1 _ q163) rfl (by rw [C.2.2.1]; exact h9.1) rfl dd (by rw [dK]; exact hd) (by rw [dK]; show 2 * 0 + _ + 12 ≤ 64 * dk; omega) (kk H lo ce sl ls hw h9)
/-- a constructor -/
theorem c_callI {y : MethodName} {code : ByteArray} {maxL idx d9 mc ms : Nat} {v : Option Value} {g' : CG} {d' : CD} {st0 : List Value} (As : List Value) (n9 : Nat) (hna : As.length = n9) (C : Kok K cc nL own) (B : CB K T) (dK : kR K = rmC dk c1 s1) (hd : d9 + 1 ≤ dk) (hL : maxL ≤ 45) (hcs : c0 + mc ≤ c1 ∧ s0 + ms ≤ s1)
    (hcd : Cond.code y code maxL none ∈ lw_all) (hlk : Cond.methodLink own idx y ∈ lw_all) (hin : Cond.instanceMethod y ∈ lw_all) (hini : Cond.initialized y.cls ∈ lw_all) (hyn : y.name = "<init>") (hy : y.cls ≠ "java/lang/invoke/MethodHandle" ∧ y.cls ≠ "java/lang/invoke/VarHandle" ∧ (parseMethodDescriptor y.desc).map (fun d => d.parameters.length) = some n9)
    (hM : Met (kL K) y (ws_ y code maxL none) (rmC d9 mc ms) (va_Pc (.ref a :: As) (CU T g d)) (Qc T v g' d') mc ms (cA T)) (hst : st0 = As.reverse ++ .ref a :: rest) (hW : (rest.map fun v => v.category).sum ≤ 8) (dd : decode cc pc = .ok (.invokespecial idx, 3)) (kk : XJ K nL (Wc K T (c0 + mc) (s0 + ms) g' d') (pc + 3) L (v.toList ++ rest)) : XJ K nL (Wc K T c0 s0 g d) pc L st0 := by
  intro H lo ce sl ls hw h9
  have hts := C.2.2.2.2.1
  exact c_after hw h9 (va_runI (n := n9) ⟨C.1, C.2.1, C.2.2.1, C.2.2.2.1, C.2.2.2.2.1⟩ hM (cwI n9 hts (lw_meth hcd) rfl rfl rfl (hts _ hini) (hts _ hlk) (hts _ hin) hyn hy (c_room dK hd hL)) ⟨c_blind, c_pre B hw⟩ rfl hna h9.1 hst (lv_room hW) dd (c_cells hw dK hcs)) kk
/-- a nest mate's private constructor -/
theorem c_callIN {y : MethodName} {code : ByteArray} {maxL idx d9 mc ms : Nat} {host : String} {v : Option Value} {g' : CG} {d' : CD} {st0 : List Value} (As : List Value) (n9 : Nat) (hna : As.length = n9) (C : Kok K cc nL own) (B : CB K T) (dK : kR K = rmC dk c1 s1) (hd : d9 + 1 ≤ dk) (hL : maxL ≤ 45) (hcs : c0 + mc ≤ c1 ∧ s0 + ms ≤ s1)
    (hcd : Cond.code y code maxL none ∈ lw_all) (hlk : Cond.methodLinkNest own idx y host ∈ lw_tbl) (hin : Cond.instanceMethod y ∈ lw_all) (hini : Cond.initialized y.cls ∈ lw_all) (hyn : y.name = "<init>") (hy : y.cls ≠ "java/lang/invoke/MethodHandle" ∧ y.cls ≠ "java/lang/invoke/VarHandle" ∧ (parseMethodDescriptor y.desc).map (fun d => d.parameters.length) = some n9)
    (hM : Met (kL K) y (ws_ y code maxL none) (rmC d9 mc ms) (va_Pc (.ref a :: As) (CU T g d)) (Qc T v g' d') mc ms (cA T)) (hst : st0 = As.reverse ++ .ref a :: rest) (hW : (rest.map fun v => v.category).sum ≤ 8) (dd : decode cc pc = .ok (.invokespecial idx, 3)) (kk : XJ K nL (Wc K T (c0 + mc) (s0 + ms) g' d') (pc + 3) L (v.toList ++ rest)) : XJ K nL (Wc K T c0 s0 g d) pc L st0 := by
  intro H lo ce sl ls hw h9
  have hts := C.2.2.2.2.1
  exact c_after hw h9 (va_runIN (n := n9) ⟨C.1, C.2.1, C.2.2.1, C.2.2.2.1, C.2.2.2.2.1⟩ hM ⟨va_cnB n9 hts (lw_meth hcd) rfl rfl rfl (B.2.1.1 _ (nw_in hlk rfl)) (hts _ hini) hy (c_room dK hd hL), hyn, hts _ hin⟩ ⟨c_blind, c_pre B hw⟩ rfl hna h9.1 hst (lv_room hW) dd (c_cells hw dK hcs)) kk
theorem c_cs {c0' s0' : Nat} {st : List Value} (h1 : c0' = c0) (h2 : s0' = s0) (k : XJ K nL (Wc K T c0 s0 g d) pc L st) : XJ K nL (Wc K T c0' s0' g d) pc L st := by subst h1; subst h2; exact k
end SW
theorem sr_inj {R : Type} {v r : R} {g g9 : CG} {d d9 : CD} {a b k m : Nat} (h : some (v, g, d, a, b) = some (r, g9, d9, k, m)) : v = r ∧ g = g9 ∧ d = d9 ∧ a = k ∧ b = m := by
  simpa using h
/-- a contract out of a walk, for one that makes cells: the method's name is known too -/
theorem c_metS {T : CT} {g : CG} {d : CD} {l : Launch} {y : MethodName} {code : ByteArray} {maxL d9 mc ms : Nat} {ret : Option FieldType} {v : Option Value} {g' : CG} {d' : CD} (av : List Value) (Rn : String) (hy : plainName y.cls = true) (hyc : y.cls = Rn) (hav : (lg_sl av).length ≤ maxL)
    (walk : ∀ K : KT, kL K = l → kR K = rmC d9 mc ms → (kMe K).sig.returnType = ret → (kMe K).name = y.name → Kok K code maxL Rn → CB K T → KQc K T v mc ms g' d' → XJ K maxL (Wc K T 0 0 g d) 0 (lv_args 0 av) []) : Met l y (ws_ y code maxL ret) (rmC d9 mc ms) (va_Pc av (CU T g d)) (Qc T v g' d') mc ms (cA T) := by
  refine Met.ofW (cc := code) (maxL := maxL) (ret := ret) hy rfl ?_
  intro p e s m args below meth c s₁ B hml hv
  obtain ⟨rfl, hP, hK, hN, hF⟩ := hv
  have hts := atoms_spec (ws := ws_ y code maxL ret) B.pre
  have hts : ∀ w ∈ lw_all, w.before _ s = true := fun w h => hts w (List.mem_cons_of_mem _ h)
  have hown : s.vm.findClass Rn = some m.cls := by rw [← hyc]; exact findClass_of_methodNamed B.named
  have h9 := lv_entry av (n := maxL) hav
  rw [lg_entry_eq]
  exact walk (p, l, e, rmC d9 mc ms, s, m, av.toArray, below, meth, c, MQ below (Qc T v g' d') av.toArray s mc ms (cA T)) rfl rfl B.returns (name_of_methodNamed B.named B.method).1 ⟨B.exec, B.bytes, hml, hown, hts, B.notSynchronized⟩ ⟨hK, hN, hF⟩ rfl s.heap [] 0 0 _ ⟨rfl, rfl, hP, va_S.rf⟩ h9
