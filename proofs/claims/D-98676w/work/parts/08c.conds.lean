set_option maxRecDepth 100000
/-! THE CONDITIONS -/
def f_is (n : Nat) (g : CG) (d : CD) : Nat → Nat → Nat → Int32 → Option Int32
  | 0, _, _, _ => none
  | rf + 1, c, x, k =>
    if ht g c = 15 then f_X18_is n g d c x k else
    if ht g c = 16 then f_X19_is g d c x k else
    if ht g c = 14 then (hr g c 0).bind fun a => (f_is n g d rf a x k).bind fun r => if r = 0 then some 1 else some 0 else
    if ht g c = 17 then (hr g c 0).bind fun a => (f_is n g d rf a x k).bind fun r => if r = 0 then some 0 else (hr g c 1).bind fun b => (f_is n g d rf b x k).bind fun r2 => if r2 = 0 then some 0 else some 1 else
    if ht g c = 18 then (hr g c 0).bind fun a => (f_is n g d rf a x k).bind fun r => if r = 0 then ((hr g c 1).bind fun b => (f_is n g d rf b x k).bind fun r2 => if r2 = 0 then some 0 else some 1) else some 1 else none
abbrev IsMet (l : Launch) (T : CT) (g : CG) (d : CD) (y : MethodName) (code : ByteArray) (c x : Nat) (k v : Int32) (dp : Nat) : Prop := Met l y (ws_ y code 3 (some .boolean)) (rmC dp 0 0) (va_Pc [.ref c, .ref x, .int k] (CU T g d)) (Qc T (some (.int v)) g d) 0 0 (cA T)
def IsM (l : Launch) (T : CT) (n : Nat) (g : CG) (d : CD) (rf : Nat) : Prop := ∀ (c x : Nat) (k v : Int32), f_is n g d rf c x k = some v → (ht g c = 14 → IsMet l T g d yX17_is cX17_is c x k v (8 + rf)) ∧ (ht g c = 17 → IsMet l T g d yX20_is cX20_is c x k v (8 + rf)) ∧ (ht g c = 18 → IsMet l T g d yX21_is cX21_is c x k v (8 + rf))
theorem bz_is {n : Nat} {g : CG} {d : CD} : ∀ {rf c x : Nat} {k v : Int32}, f_is n g d rf c x k = some v → v = 0 ∨ v = 1
  | 0, _, _, _, _, hf => by cases hf
  | rf + 1, c, x, k, v, hf => by
    have fin : ∀ {p q : Int32} {b : Prop} [Decidable b], (p = 0 ∨ p = 1) → (q = 0 ∨ q = 1) → (if b then some p else some q) = some v → v = 0 ∨ v = 1 := by
      intro p q b _ hp hq h
      split at h
      · cases h; exact hp
      · cases h; exact hq
    unfold f_is at hf
    split at hf
    · exact bz_X18_is_E hf
    split at hf
    · exact bz_X19_is_E hf
    split at hf
    · obtain ⟨a, -, hf⟩ := pf_b hf
      obtain ⟨r, -, hf⟩ := pf_b hf
      exact fin (Or.inr rfl) (Or.inl rfl) hf
    split at hf
    · obtain ⟨a, -, hf⟩ := pf_b hf
      obtain ⟨r, -, hf⟩ := pf_b hf
      split at hf
      · cases hf; exact Or.inl rfl
      obtain ⟨b, -, hf⟩ := pf_b hf
      obtain ⟨r2, -, hf⟩ := pf_b hf
      exact fin (Or.inl rfl) (Or.inr rfl) hf
    split at hf
    · obtain ⟨a, -, hf⟩ := pf_b hf
      obtain ⟨r, -, hf⟩ := pf_b hf
      split at hf
      · obtain ⟨b, -, hf⟩ := pf_b hf
        obtain ⟨r2, -, hf⟩ := pf_b hf
        exact fin (Or.inl rfl) (Or.inr rfl) hf
      · cases hf; exact Or.inr rfl
    · cases hf

theorem fw_X17 {K : KT} {T : CT} (B : CB K T) : va_Fw "StatueRent$Not" yCond yX17_is (kS K) := B.2.1.2 ("StatueRent$Not", yX17_is) (List.mem_of_getElem? (i := 0) rfl)
theorem lf_X17 {own : String} {idx : Nat} (hlk : Cond.methodLink own idx yCond ∈ lw_all) : GoodIn lw_all (va_wsF own idx "StatueRent$Not" yCond yX17_is (ws_ yX17_is cX17_is 3 (some .boolean))) := lw_F hlk q1668 q1670 q150 q1672
theorem kf_X17 {K : KT} {T : CT} {c0 s0 c1 s1 dk : Nat} {g : CG} {d : CD} {cc : ByteArray} {nL pc : Nat} {L : List (Nat × Value)} {rest : List Value} {own : String} {idx c x d9 : Nat} {k v : Int32} (C : Kok K cc nL own) (B : CB K T) (hlk : Cond.methodLink own idx yCond ∈ lw_all) (dK : kR K = rmC dk c1 s1) (hd : d9 + 1 ≤ dk) (hcs : c0 + 0 ≤ c1 ∧ s0 + 0 ≤ s1) (e : ht g c = 14) (hM : Met (kL K) yX17_is (ws_ yX17_is cX17_is 3 (some .boolean)) (rmC d9 0 0) (va_Pc [.ref c, .ref x, .int k] (CU T g d)) (Qc T (some (.int v)) g d) 0 0 (cA T)) (hW : (rest.map fun v => v.category).sum ≤ 8) (dd : decode cc pc = .ok (.invokeinterface idx 3, 5)) (kk : XJ K nL (Wc K T c0 s0 g d) (pc + 5) L (.int v :: rest)) : XJ K nL (Wc K T c0 s0 g d) pc L (.int k :: .ref x :: .ref c :: rest) :=
  c_callF (rest := rest) (t := 14) (Cn := "StatueRent$Not") (x := yCond) (y := yX17_is) (v := some (.int v)) [.ref x, .int k] 2 rfl C B e (by decide) (by decide) rfl dK hd (Nat.le_of_ble_eq_true rfl) hcs (lf_X17 hlk) (fw_X17 B) (by decide +kernel) hM rfl hW dd kk
theorem fw_X18 {K : KT} {T : CT} (B : CB K T) : va_Fw "StatueRent$Marks" yCond yX18_is (kS K) := B.2.1.2 ("StatueRent$Marks", yX18_is) (List.mem_of_getElem? (i := 1) rfl)
theorem lf_X18 {own : String} {idx : Nat} (hlk : Cond.methodLink own idx yCond ∈ lw_all) : GoodIn lw_all (va_wsF own idx "StatueRent$Marks" yCond yX18_is (ws_ yX18_is cX18_is 4 (some .boolean))) := lw_F hlk q1659 q1661 q151 q1663
theorem kf_X18 {K : KT} {T : CT} {c0 s0 c1 s1 dk : Nat} {g : CG} {d : CD} {cc : ByteArray} {nL pc : Nat} {L : List (Nat × Value)} {rest : List Value} {own : String} {idx c x d9 : Nat} {k v : Int32} (C : Kok K cc nL own) (B : CB K T) (hlk : Cond.methodLink own idx yCond ∈ lw_all) (dK : kR K = rmC dk c1 s1) (hd : d9 + 1 ≤ dk) (hcs : c0 + 0 ≤ c1 ∧ s0 + 0 ≤ s1) (e : ht g c = 15) (hM : Met (kL K) yX18_is (ws_ yX18_is cX18_is 4 (some .boolean)) (rmC d9 0 0) (va_Pc [.ref c, .ref x, .int k] (CU T g d)) (Qc T (some (.int v)) g d) 0 0 (cA T)) (hW : (rest.map fun v => v.category).sum ≤ 8) (dd : decode cc pc = .ok (.invokeinterface idx 3, 5)) (kk : XJ K nL (Wc K T c0 s0 g d) (pc + 5) L (.int v :: rest)) : XJ K nL (Wc K T c0 s0 g d) pc L (.int k :: .ref x :: .ref c :: rest) :=
  c_callF (rest := rest) (t := 15) (Cn := "StatueRent$Marks") (x := yCond) (y := yX18_is) (v := some (.int v)) [.ref x, .int k] 2 rfl C B e (by decide) (by decide) rfl dK hd (Nat.le_of_ble_eq_true rfl) hcs (lf_X18 hlk) (fw_X18 B) (by decide +kernel) hM rfl hW dd kk
theorem fw_X19 {K : KT} {T : CT} (B : CB K T) : va_Fw "StatueRent$Counts" yCond yX19_is (kS K) := B.2.1.2 ("StatueRent$Counts", yX19_is) (List.mem_of_getElem? (i := 2) rfl)
theorem lf_X19 {own : String} {idx : Nat} (hlk : Cond.methodLink own idx yCond ∈ lw_all) : GoodIn lw_all (va_wsF own idx "StatueRent$Counts" yCond yX19_is (ws_ yX19_is cX19_is 5 (some .boolean))) := lw_F hlk q1653 q1655 q152 q1657
theorem kf_X19 {K : KT} {T : CT} {c0 s0 c1 s1 dk : Nat} {g : CG} {d : CD} {cc : ByteArray} {nL pc : Nat} {L : List (Nat × Value)} {rest : List Value} {own : String} {idx c x d9 : Nat} {k v : Int32} (C : Kok K cc nL own) (B : CB K T) (hlk : Cond.methodLink own idx yCond ∈ lw_all) (dK : kR K = rmC dk c1 s1) (hd : d9 + 1 ≤ dk) (hcs : c0 + 0 ≤ c1 ∧ s0 + 0 ≤ s1) (e : ht g c = 16) (hM : Met (kL K) yX19_is (ws_ yX19_is cX19_is 5 (some .boolean)) (rmC d9 0 0) (va_Pc [.ref c, .ref x, .int k] (CU T g d)) (Qc T (some (.int v)) g d) 0 0 (cA T)) (hW : (rest.map fun v => v.category).sum ≤ 8) (dd : decode cc pc = .ok (.invokeinterface idx 3, 5)) (kk : XJ K nL (Wc K T c0 s0 g d) (pc + 5) L (.int v :: rest)) : XJ K nL (Wc K T c0 s0 g d) pc L (.int k :: .ref x :: .ref c :: rest) :=
  c_callF (rest := rest) (t := 16) (Cn := "StatueRent$Counts") (x := yCond) (y := yX19_is) (v := some (.int v)) [.ref x, .int k] 2 rfl C B e (by decide) (by decide) rfl dK hd (Nat.le_of_ble_eq_true rfl) hcs (lf_X19 hlk) (fw_X19 B) (by decide +kernel) hM rfl hW dd kk
theorem fw_X20 {K : KT} {T : CT} (B : CB K T) : va_Fw "StatueRent$Both" yCond yX20_is (kS K) := B.2.1.2 ("StatueRent$Both", yX20_is) (List.mem_of_getElem? (i := 3) rfl)
theorem lf_X20 {own : String} {idx : Nat} (hlk : Cond.methodLink own idx yCond ∈ lw_all) : GoodIn lw_all (va_wsF own idx "StatueRent$Both" yCond yX20_is (ws_ yX20_is cX20_is 3 (some .boolean))) := lw_F hlk q1645 q1647 q153 q1649
theorem kf_X20 {K : KT} {T : CT} {c0 s0 c1 s1 dk : Nat} {g : CG} {d : CD} {cc : ByteArray} {nL pc : Nat} {L : List (Nat × Value)} {rest : List Value} {own : String} {idx c x d9 : Nat} {k v : Int32} (C : Kok K cc nL own) (B : CB K T) (hlk : Cond.methodLink own idx yCond ∈ lw_all) (dK : kR K = rmC dk c1 s1) (hd : d9 + 1 ≤ dk) (hcs : c0 + 0 ≤ c1 ∧ s0 + 0 ≤ s1) (e : ht g c = 17) (hM : Met (kL K) yX20_is (ws_ yX20_is cX20_is 3 (some .boolean)) (rmC d9 0 0) (va_Pc [.ref c, .ref x, .int k] (CU T g d)) (Qc T (some (.int v)) g d) 0 0 (cA T)) (hW : (rest.map fun v => v.category).sum ≤ 8) (dd : decode cc pc = .ok (.invokeinterface idx 3, 5)) (kk : XJ K nL (Wc K T c0 s0 g d) (pc + 5) L (.int v :: rest)) : XJ K nL (Wc K T c0 s0 g d) pc L (.int k :: .ref x :: .ref c :: rest) :=
  c_callF (rest := rest) (t := 17) (Cn := "StatueRent$Both") (x := yCond) (y := yX20_is) (v := some (.int v)) [.ref x, .int k] 2 rfl C B e (by decide) (by decide) rfl dK hd (Nat.le_of_ble_eq_true rfl) hcs (lf_X20 hlk) (fw_X20 B) (by decide +kernel) hM rfl hW dd kk
theorem fw_X21 {K : KT} {T : CT} (B : CB K T) : va_Fw "StatueRent$Any" yCond yX21_is (kS K) := B.2.1.2 ("StatueRent$Any", yX21_is) (List.mem_of_getElem? (i := 4) rfl)
theorem lf_X21 {own : String} {idx : Nat} (hlk : Cond.methodLink own idx yCond ∈ lw_all) : GoodIn lw_all (va_wsF own idx "StatueRent$Any" yCond yX21_is (ws_ yX21_is cX21_is 3 (some .boolean))) := lw_F hlk q1637 q1639 q154 q1641
theorem kf_X21 {K : KT} {T : CT} {c0 s0 c1 s1 dk : Nat} {g : CG} {d : CD} {cc : ByteArray} {nL pc : Nat} {L : List (Nat × Value)} {rest : List Value} {own : String} {idx c x d9 : Nat} {k v : Int32} (C : Kok K cc nL own) (B : CB K T) (hlk : Cond.methodLink own idx yCond ∈ lw_all) (dK : kR K = rmC dk c1 s1) (hd : d9 + 1 ≤ dk) (hcs : c0 + 0 ≤ c1 ∧ s0 + 0 ≤ s1) (e : ht g c = 18) (hM : Met (kL K) yX21_is (ws_ yX21_is cX21_is 3 (some .boolean)) (rmC d9 0 0) (va_Pc [.ref c, .ref x, .int k] (CU T g d)) (Qc T (some (.int v)) g d) 0 0 (cA T)) (hW : (rest.map fun v => v.category).sum ≤ 8) (dd : decode cc pc = .ok (.invokeinterface idx 3, 5)) (kk : XJ K nL (Wc K T c0 s0 g d) (pc + 5) L (.int v :: rest)) : XJ K nL (Wc K T c0 s0 g d) pc L (.int k :: .ref x :: .ref c :: rest) :=
  c_callF (rest := rest) (t := 18) (Cn := "StatueRent$Any") (x := yCond) (y := yX21_is) (v := some (.int v)) [.ref x, .int k] 2 rfl C B e (by decide) (by decide) rfl dK hd (Nat.le_of_ble_eq_true rfl) hcs (lf_X21 hlk) (fw_X21 B) (by decide +kernel) hM rfl hW dd kk
theorem k_is {K : KT} {T : CT} {c0 s0 c1 s1 dk n : Nat} {g : CG} {d : CD} {cc : ByteArray} {nL pc : Nat} {L : List (Nat × Value)} {rest : List Value} {own : String} {idx rf c x : Nat} {k v : Int32} (hM : IsM (kL K) T n g d rf) (C : Kok K cc nL own) (B : CB K T) (hlk : Cond.methodLink own idx yCond ∈ lw_all) (dK : kR K = rmC dk c1 s1) (hd : 9 + rf ≤ dk) (hcs : c0 + 0 ≤ c1 ∧ s0 + 0 ≤ s1) (hf : f_is n g d rf c x k = some v) (hW : (rest.map fun v => v.category).sum ≤ 8) (dd : decode cc pc = .ok (.invokeinterface idx 3, 5)) (kk : XJ K nL (Wc K T c0 s0 g d) (pc + 5) L (.int v :: rest)) : XJ K nL (Wc K T c0 s0 g d) pc L (.int k :: .ref x :: .ref c :: rest) := by
  have h := hM c x k v hf
  cases rf with
  | zero => cases hf
  | succ rf =>
    unfold f_is at hf
    by_cases e : ht g c = 15
    · rw [if_pos e] at hf
      exact kf_X18 C B hlk dK (by omega) hcs e (met_X18_is hf) hW dd kk
    rw [if_neg e] at hf
    clear e
    by_cases e : ht g c = 16
    · rw [if_pos e] at hf
      exact kf_X19 C B hlk dK (by omega) hcs e (met_X19_is hf) hW dd kk
    rw [if_neg e] at hf
    clear e
    by_cases e : ht g c = 14
    · exact kf_X17 C B hlk dK (by omega) hcs e (h.1 e) hW dd kk
    rw [if_neg e] at hf
    clear e
    by_cases e : ht g c = 17
    · exact kf_X20 C B hlk dK (by omega) hcs e (h.2.1 e) hW dd kk
    rw [if_neg e] at hf
    clear e
    by_cases e : ht g c = 18
    · exact kf_X21 C B hlk dK (by omega) hcs e (h.2.2 e) hW dd kk
    rw [if_neg e] at hf
    cases hf
theorem isM_succ {T : CT} {n : Nat} {g : CG} {d : CD} {l : Launch} (rf : Nat) (ih : IsM l T n g d rf) : IsM l T n g d (rf + 1) := by
  intro c x k v hf
  unfold f_is at hf
  refine ⟨fun e => ?_, fun e => ?_, fun e => ?_⟩
  · rw [if_neg (by rw [e]; decide), if_neg (by rw [e]; decide), if_pos e] at hf
    obtain ⟨a, ea, hf⟩ := pf_b hf
    obtain ⟨r, er, hf⟩ := pf_b hf
    exact c_met [.ref c, .ref x, .int k] RX17 (by decide) rfl (Nat.le_of_ble_eq_true rfl) fun K hl hR hrt C B hQ => by
        subst hl
        refine x_aload_n C dX17_is_0 0 rfl ?_
        refine cg14_0 C B e (flo C q1561) fsm ea dX17_is_1 ?_
        refine x_aload_n C dX17_is_4 1 rfl ?_
        refine x_iload_n C dX17_is_5 2 rfl ?_
        refine k_is ih C B q1674 hR (by omega) ⟨Nat.le_refl _, Nat.le_refl _⟩ er (Nat.le_of_ble_eq_true rfl) dX17_is_6 ?_
        refine x_if_ne (tgt := 18) C dX17_is_11 (by decide) (fun w => ?_) (fun w => ?_)
        · have hf := pf_f w hf
          cases hf
          refine x_iconst (0 : Int32) C dX17_is_18 (by decide) ?_
          exact c_zret C hrt (Or.inl rfl) hQ dX17_is_19
        · have hf := pf_t w hf
          cases hf
          refine x_iconst (1 : Int32) C dX17_is_14 (by decide) ?_
          refine x_goto (tgt := 19) C dX17_is_15 (by decide) ?_
          exact c_zret C hrt (Or.inr rfl) hQ dX17_is_19
  · rw [if_neg (by rw [e]; decide), if_neg (by rw [e]; decide), if_neg (by rw [e]; decide), if_pos e] at hf
    obtain ⟨a, ea, hf⟩ := pf_b hf
    obtain ⟨r, er, hf⟩ := pf_b hf
    exact c_met [.ref c, .ref x, .int k] RX20 (by decide) rfl (Nat.le_of_ble_eq_true rfl) fun K hl hR hrt C B hQ => by
        subst hl
        refine x_aload_n C dX20_is_0 0 rfl ?_
        refine cg17_0 C B e (flo C q1607) fsm ea dX20_is_1 ?_
        refine x_aload_n C dX20_is_4 1 rfl ?_
        refine x_iload_n C dX20_is_5 2 rfl ?_
        refine k_is ih C B q1651 hR (by omega) ⟨Nat.le_refl _, Nat.le_refl _⟩ er (Nat.le_of_ble_eq_true rfl) dX20_is_6 ?_
        refine x_if_eq (tgt := 32) C dX20_is_11 (by decide) (fun w => ?_) (fun w => ?_)
        · have hf := pf_t w hf
          cases hf
          refine x_iconst (0 : Int32) C dX20_is_32 (by decide) ?_
          exact c_zret C hrt (Or.inl rfl) hQ dX20_is_33
        · have hf := pf_f w hf
          obtain ⟨b, eb, hf⟩ := pf_b hf
          obtain ⟨r2, er2, hf⟩ := pf_b hf
          refine x_aload_n C dX20_is_14 0 rfl ?_
          refine cg17_1 C B e (flo C q1608) fsm eb dX20_is_15 ?_
          refine x_aload_n C dX20_is_18 1 rfl ?_
          refine x_iload_n C dX20_is_19 2 rfl ?_
          refine k_is ih C B q1651 hR (by omega) ⟨Nat.le_refl _, Nat.le_refl _⟩ er2 (Nat.le_of_ble_eq_true rfl) dX20_is_20 ?_
          refine x_if_eq (tgt := 32) C dX20_is_25 (by decide) (fun w2 => ?_) (fun w2 => ?_)
          · have hf := pf_t w2 hf
            cases hf
            refine x_iconst (0 : Int32) C dX20_is_32 (by decide) ?_
            exact c_zret C hrt (Or.inl rfl) hQ dX20_is_33
          · have hf := pf_f w2 hf
            cases hf
            refine x_iconst (1 : Int32) C dX20_is_28 (by decide) ?_
            refine x_goto (tgt := 33) C dX20_is_29 (by decide) ?_
            exact c_zret C hrt (Or.inr rfl) hQ dX20_is_33
  · rw [if_neg (by rw [e]; decide), if_neg (by rw [e]; decide), if_neg (by rw [e]; decide), if_neg (by rw [e]; decide), if_pos e] at hf
    obtain ⟨a, ea, hf⟩ := pf_b hf
    obtain ⟨r, er, hf⟩ := pf_b hf
    exact c_met [.ref c, .ref x, .int k] RX21 (by decide) rfl (Nat.le_of_ble_eq_true rfl) fun K hl hR hrt C B hQ => by
        subst hl
        refine x_aload_n C dX21_is_0 0 rfl ?_
        refine cg18_0 C B e (flo C q1621) fsm ea dX21_is_1 ?_
        refine x_aload_n C dX21_is_4 1 rfl ?_
        refine x_iload_n C dX21_is_5 2 rfl ?_
        refine k_is ih C B q1643 hR (by omega) ⟨Nat.le_refl _, Nat.le_refl _⟩ er (Nat.le_of_ble_eq_true rfl) dX21_is_6 ?_
        refine x_if_ne (tgt := 28) C dX21_is_11 (by decide) (fun w => ?_) (fun w => ?_)
        · have hf := pf_f w hf
          cases hf
          refine x_iconst (1 : Int32) C dX21_is_28 (by decide) ?_
          refine x_goto (tgt := 33) C dX21_is_29 (by decide) ?_
          exact c_zret C hrt (Or.inr rfl) hQ dX21_is_33
        · have hf := pf_t w hf
          obtain ⟨b, eb, hf⟩ := pf_b hf
          obtain ⟨r2, er2, hf⟩ := pf_b hf
          refine x_aload_n C dX21_is_14 0 rfl ?_
          refine cg18_1 C B e (flo C q1622) fsm eb dX21_is_15 ?_
          refine x_aload_n C dX21_is_18 1 rfl ?_
          refine x_iload_n C dX21_is_19 2 rfl ?_
          refine k_is ih C B q1643 hR (by omega) ⟨Nat.le_refl _, Nat.le_refl _⟩ er2 (Nat.le_of_ble_eq_true rfl) dX21_is_20 ?_
          refine x_if_eq (tgt := 32) C dX21_is_25 (by decide) (fun w2 => ?_) (fun w2 => ?_)
          · have hf := pf_t w2 hf
            cases hf
            refine x_iconst (0 : Int32) C dX21_is_32 (by decide) ?_
            exact c_zret C hrt (Or.inl rfl) hQ dX21_is_33
          · have hf := pf_f w2 hf
            cases hf
            refine x_iconst (1 : Int32) C dX21_is_28 (by decide) ?_
            refine x_goto (tgt := 33) C dX21_is_29 (by decide) ?_
            exact c_zret C hrt (Or.inr rfl) hQ dX21_is_33
theorem isM (l : Launch) (T : CT) (n : Nat) (g : CG) (d : CD) : ∀ rf : Nat, IsM l T n g d rf
  | 0 => fun c x k v hf => by cases hf
  | rf + 1 => isM_succ rf (isM l T n g d rf)
