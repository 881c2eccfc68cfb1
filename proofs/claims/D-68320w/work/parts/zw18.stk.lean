/-! where nothing is said: what throws, or is never reached -/
section FsK
variable {E : FE} {p : Program} {l : Launch} {e : Env} {R : Room} {s : State} {m : MethodId} {args : Array Value} {below : List Frame} {meth : Method} {c : Code} {nL NF SF N0 S0 : Nat} {Q : State → Prop} {cc : ByteArray} {own : String} {ret : Option FieldType} {S : FS}
theorem fs_stk {pc nx : Nat} : fs_Snd S own cc ret nL E p l e R s m args below meth c NF SF N0 S0 Q pc nx .athrow := by
  intro Rt go kr r L st M h hgo hret
  cases h
end FsK
/-- a check in pieces -/
theorem fe_chk_a {cc : ByteArray} {ret : Option FieldType} {nL : Nat} : ∀ {c1 c2 : List (Nat × Nat × Instr)} {p1 p2 : List Nat}, fe_chk cc ret nL c1 p1 = true → fe_chk cc ret nL c2 p2 = true → fe_chk cc ret nL (c1 ++ c2) (p1 ++ p2) = true
  | [], c2, [], p2, _, h2 => h2
  | [], c2, _ :: _, p2, h1, _ => by cases h1
  | q :: t, c2, p1, p2, h1, h2 => by
    unfold fe_chk at h1
    show fe_chk cc ret nL (q :: (t ++ c2)) (p1 ++ p2) = true
    unfold fe_chk
    by_cases e : fe_okq cc ret nL q = true
    · rw [if_pos e] at h1 ⊢
      exact fe_chk_a h1 h2
    · rw [if_neg e] at h1 ⊢
      cases p1 with
      | nil => cases h1
      | cons a r =>
        rw [Bool.and_eq_true] at h1
        show (Nat.beq q.1 a && fe_chk cc ret nL (t ++ c2) (r ++ p2)) = true
        rw [Bool.and_eq_true]
        exact ⟨h1.1, fe_chk_a h1.2 h2⟩
theorem fe_chk_t {cc : ByteArray} {ret : Option FieldType} {nL a n : Nat} {c : List (Nat × Nat × Instr)} {p1 p2 : List Nat} (h1 : fe_chk cc ret nL ((c.drop a).take n) p1 = true) (h2 : fe_chk cc ret nL (c.drop (a + n)) p2 = true) : fe_chk cc ret nL (c.drop a) (p1 ++ p2) = true := by
  have e : (c.drop a).take n ++ c.drop (a + n) = c.drop a := by
    rw [← List.drop_drop]
    exact List.take_append_drop _ _
  have := fe_chk_a h1 h2
  rw [e] at this
  exact this
