/-! TEXTS: String.length and String.charAt through the JDK's own code, on a text (kind 90) -/
section CS
variable {K : KT} {T : CT} {c0 s0 c1 s1 dk : Nat} {g : CG} {d : CD} {cc : ByteArray} {nL : Nat} {own : String} {pc : Nat} {L : List (Nat × Value)} {rest : List Value} {a : Nat}
/-- a constant text is taken -/
theorem c_ldcS {idx id : Nat} {tx : String} (j : Nat) (C : Kok K cc nL own) (B : CB K T) (hj : strT[j]? = some (own, idx, tx, id)) (dd : decode cc pc = .ok (.ldc idx, 2)) (kk : XJ K nL (Wc K T c0 s0 g d) (pc + 2) L (.ref (tS T id) :: rest)) : XJ K nL (Wc K T c0 s0 g d) pc L rest := fun H lo ce sl ls hw h9 => va_ldcS C.1 C.2.1 C.2.2.2.1 (B.2.2.2.2.2.2 _ (List.mem_of_getElem? hj)) dd (kk H lo ce sl ls hw h9)
theorem cW_str {H : Heap} (hw : CWd T g d H) (hta : ht g a = 90) : ∃ b, ht g b = 0 ∧ cStr T (hn g a) (hi d a) a b H := (hw.2.2.2 a (by rw [hta]; decide)).2.2.2 hta
theorem c_gZ {idx : Nat} (C : Kok K cc nL own) (B : CB K T) (hq : Cond.fieldLink own idx "java/lang/String" "COMPACT_STRINGS" "Z" ∈ lw_all) (dd : decode cc pc = .ok (.getstatic idx, 3)) (kk : XJ K nL (Wc K T c0 s0 g d) (pc + 3) L (.int 1 :: rest)) : XJ K nL (Wc K T c0 s0 g d) pc L rest := fun H lo ce sl ls hw h9 => va_gets C.1 C.2.1 B.2.2.1 hw.2.2.2 C.2.2.2.1 (C.2.2.2.2.1 _ hq) (fun _ h => h) dd (kk H lo ce sl ls hw h9)
/-- a field of a text's object -/
theorem c_sget {b : Nat} (k : Nat) {idx : Nat} {v : Value} {H : Heap} {lo : List Loc} {ce sl : Nat} {ls : Array Slot} (C : Kok K cc nL own) (B : CB K T) (hs : cStr T (hn g a) (hi d a) a b H) (hk : k < 2) (hlk : Cond.fieldLink own idx "java/lang/String" (TJ3 k).2.1 (TJ3 k).2.2.1 ∈ lw_all) (hsm : ∀ x, (kS K).fieldFound? (TJ3 k).1 (TJ3 k).2.1 (TJ3 k).2.2.1 = some x → (kS K).fieldFound? "java/lang/String" (TJ3 k).2.1 (TJ3 k).2.2.1 = some x) (hv : ([.ref b, .int 0] : List Value)[k]? = some v) (hin : ∀ w ∈ u_ws RJ3 TJ3 2, w ∈ lw_all) (dd : decode cc pc = .ok (.getfield idx, 3)) (kk : WK K H lo ce sl (F0 (kM K) (pc + 3) ls (v :: rest))) : WK K H lo ce sl (F0 (kM K) pc ls (.ref a :: rest)) := va_get (C := RJ3) (T := TJ3) (N := 2) C.1 C.2.1 C.2.2.2.2.1 hin C.2.2.2.1 B.1 (cP1 hs.1) 0 rfl rfl k hk (C.2.2.2.2.1 _ hlk) hsm hv dd kk
theorem in_J3b : ∀ w ∈ u_ws RJ3 TJ3 2, w ∈ lw_all := lw_in (u_ws RJ3 TJ3 2) [1337, 1339] (by decide +kernel) (by decide +kernel)
theorem c_svalue {idx : Nat} (C : Kok K cc nL own) (B : CB K T) (hta : ht g a = 90) (hlk : Cond.fieldLink own idx "java/lang/String" "value" "[B" ∈ lw_all) (dd : decode cc pc = .ok (.getfield idx, 3)) (kk : ∀ b, ht g b = 0 → XJ K nL (fun H lo ce sl => Wc K T c0 s0 g d H lo ce sl ∧ cStr T (hn g a) (hi d a) a b H) (pc + 3) L (.ref b :: rest)) : XJ K nL (Wc K T c0 s0 g d) pc L (.ref a :: rest) := by
  intro H lo ce sl ls hw h9
  obtain ⟨b, hb, hs⟩ := cW_str hw.2.2.1 hta
  exact c_sget 0 C B hs (by decide) hlk (fun _ h => h) rfl in_J3b dd (kk b hb H lo ce sl ls ⟨hw, hs⟩ h9)
theorem c_scoder {idx : Nat} (C : Kok K cc nL own) (B : CB K T) (hta : ht g a = 90) (hlk : Cond.fieldLink own idx "java/lang/String" "coder" "B" ∈ lw_all) (dd : decode cc pc = .ok (.getfield idx, 3)) (kk : XJ K nL (Wc K T c0 s0 g d) (pc + 3) L (.int 0 :: rest)) : XJ K nL (Wc K T c0 s0 g d) pc L (.ref a :: rest) := by
  intro H lo ce sl ls hw h9
  obtain ⟨b, hb, hs⟩ := cW_str hw.2.2.1 hta
  exact c_sget 1 C B hs (by decide) hlk (fun _ h => h) rfl in_J3b dd (kk H lo ce sl ls hw h9)
end CS
