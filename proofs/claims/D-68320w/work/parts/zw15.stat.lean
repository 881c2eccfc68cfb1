/-! statics; dispatch by combinators -/
section FsT
variable {E : FE} {p : Program} {l : Launch} {e : Env} {R : Room} {s : State} {m : MethodId} {args : Array Value} {below : List Frame} {meth : Method} {c : Code} {nL NF SF N0 S0 : Nat} {Q : State → Prop} {cc : ByteArray} {own : String} {ret : Option FieldType} {S : FS}
theorem fs_getst {pc idx k : Nat} {CC n d ref : String} (C : fs_C E p R s m args meth c cc own nL ret NF SF N0 S0) (hd : decode cc pc = .ok (.getstatic idx, 3)) (hl : (Cond.fieldLink own idx ref n d).before args s = true) (hsame : ∀ x, s.fieldFound? CC n d = some x → s.fieldFound? ref n d = some x) (h0 : k ≠ 0)
    (hZ : va_Z CC n d (.ref (fs_ra E k)) (fun q => E.2.1.size ≤ q) E.1 E.2.1) : fs_Snd S own cc ret nL E p l e R s m args below meth c NF SF N0 S0 Q pc (pc + 3) (.getstatic k) := by
  obtain ⟨hx, hb, hml, hown, hwm, hlk0, hr, hRR, hE⟩ := C
  intro Rt go kr r L st M h hgo hret
  refine fs_rel (hgo _ _ _ _ h) (fun H ls locs cells slots hR _ kk => ?_)
  obtain ⟨cf, kf, fi, f, a, cell, h1, h2, h3, h4, h5, h6, h7, h8⟩ := hZ.moved hwm.alike
  have ha : a < E.2.1.size := (Array.getElem?_eq_some_iff.mp h5).1
  rw [fs_map_ref (fs_rv_ne h0)] at kk
  exact W.gets hx hb hown hl (hsame _ h1) h2 h3 h4 (by rw [hR.1.2 a ha]; exact h5) (fun e => by rw [e] at h6; cases h6) h7 rfl hd kk
end FsT
section FeD
variable {R : Type} {r : R}
def fe_lI (L : fm_L) (i : Nat) (f : Int32 → Option R) : Option R := match fe_lk L i with
  | some (.int x) => f x
  | _ => none
def fe_lL (L : fm_L) (i : Nat) (f : Int64 → Option R) : Option R := match fe_lk L i with
  | some (.long x) => f x
  | _ => none
def fe_lR (L : fm_L) (i : Nat) (f : Nat → Option R) : Option R := match fe_lk L i with
  | some (.ref x) => f x
  | _ => none
def fe_tI (st : List Value) (f : Int32 → List Value → Option R) : Option R := match st with
  | .int x :: t => f x t
  | _ => none
def fe_tL (st : List Value) (f : Int64 → List Value → Option R) : Option R := match st with
  | .long x :: t => f x t
  | _ => none
def fe_tR (st : List Value) (f : Nat → List Value → Option R) : Option R := match st with
  | .ref x :: t => f x t
  | _ => none
def fe_t0 (st : List Value) (x : Option R) : Option R := match st with
  | [] => x
  | _ => none
theorem fe_lI_d {L : fm_L} {i : Nat} {f : Int32 → Option R} (h : fe_lI L i f = some r) : ∃ x, (i, .int x) ∈ L ∧ f x = some r := by
  unfold fe_lI at h
  split at h
  · rename_i x hk
    exact ⟨x, fe_lk_mem hk, h⟩
  · cases h
theorem fe_lL_d {L : fm_L} {i : Nat} {f : Int64 → Option R} (h : fe_lL L i f = some r) : ∃ x, (i, .long x) ∈ L ∧ f x = some r := by
  unfold fe_lL at h
  split at h
  · rename_i x hk
    exact ⟨x, fe_lk_mem hk, h⟩
  · cases h
theorem fe_lR_d {L : fm_L} {i : Nat} {f : Nat → Option R} (h : fe_lR L i f = some r) : ∃ x, (i, .ref x) ∈ L ∧ f x = some r := by
  unfold fe_lR at h
  split at h
  · rename_i x hk
    exact ⟨x, fe_lk_mem hk, h⟩
  · cases h
theorem fe_tI_d {st : List Value} {f : Int32 → List Value → Option R} (h : fe_tI st f = some r) : ∃ x t, st = .int x :: t ∧ f x t = some r := by
  unfold fe_tI at h
  split at h
  · exact ⟨_, _, rfl, h⟩
  · cases h
theorem fe_tL_d {st : List Value} {f : Int64 → List Value → Option R} (h : fe_tL st f = some r) : ∃ x t, st = .long x :: t ∧ f x t = some r := by
  unfold fe_tL at h
  split at h
  · exact ⟨_, _, rfl, h⟩
  · cases h
theorem fe_tR_d {st : List Value} {f : Nat → List Value → Option R} (h : fe_tR st f = some r) : ∃ x t, st = .ref x :: t ∧ f x t = some r := by
  unfold fe_tR at h
  split at h
  · exact ⟨_, _, rfl, h⟩
  · cases h
theorem fe_t0_d {st : List Value} {x : Option R} (h : fe_t0 st x = some r) : st = [] ∧ x = some r := by
  unfold fe_t0 at h
  split at h
  · exact ⟨rfl, h⟩
  · cases h
theorem fe_mem_c {a : Nat} {t : List Nat} {i : Nat} (h : fe_mem (a :: t) i = true) : i = a ∨ fe_mem t i = true := by
  unfold fe_mem at h
  rw [Bool.or_eq_true] at h
  rcases h with h | h
  · exact Or.inl (Nat.eq_of_beq_eq_true h).symm
  · exact Or.inr h
theorem fe_mem_0 {i : Nat} {P : Prop} (h : fe_mem [] i = true) : P := by cases h
theorem fe_nl {L : fm_L} : ∀ q ∈ ([] : fm_L), q ∈ L := fun q h => by cases h
theorem fe_cs {L t : fm_L} {q : Nat × Value} (h : q ∈ L) (ht : ∀ x ∈ t, x ∈ L) : ∀ x ∈ q :: t, x ∈ L := List.forall_mem_cons.mpr ⟨h, ht⟩
theorem fe_ki_d {x : Int32} {M M' : FM} {v : Option Value} {r : Int32 × FM} (h : fe_ki v M' = some r) : v = some (.int r.1) ∧ M' = r.2 := by
  unfold fe_ki at h
  split at h
  · cases h; exact ⟨rfl, rfl⟩
  · cases h
theorem fe_ki_k (r : Int32 × FM) : ∀ v M', fe_ki v M' = some r → v = some (.int r.1) ∧ M' = r.2 := fun v M' h => fe_ki_d (x := 0) (M := M') h
theorem fe_kl_k (r : Int64 × FM) : ∀ v M', fe_kl v M' = some r → v = some (.long r.1) ∧ M' = r.2 := by
  intro v M' h
  unfold fe_kl at h
  split at h
  · cases h; exact ⟨rfl, rfl⟩
  · cases h
theorem fe_ka_k (r : Nat × FM) : ∀ v M', fe_ka v M' = some r → v = some (.ref r.1) ∧ M' = r.2 := by
  intro v M' h
  unfold fe_ka at h
  split at h
  · cases h; exact ⟨rfl, rfl⟩
  · cases h
theorem fe_kv_k (r : FM) : ∀ v M', fe_kv v M' = some r → v = none ∧ M' = r := by
  intro v M' h
  unfold fe_kv at h
  split at h
  · cases h; exact ⟨rfl, rfl⟩
  · cases h
/-- all instructions: the plain ones by a look, the others one by one -/
def fe_okq (cc : ByteArray) (ret : Option FieldType) (nL : Nat) (q : Nat × Nat × Instr) : Bool := fs_ok cc ret nL q.1 q.2.1 q.2.2 || (match q.2.2 with
  | .lookupswitch d ps => fs_lsok cc q.1 q.2.1 d ps
  | _ => false)
def fe_chk (cc : ByteArray) (ret : Option FieldType) (nL : Nat) : List (Nat × Nat × Instr) → List Nat → Bool
  | [], ps => match ps with
    | [] => true
    | _ :: _ => false
  | q :: t, ps => if fe_okq cc ret nL q then fe_chk cc ret nL t ps else (match ps with
    | [] => false
    | a :: r => Nat.beq q.1 a && fe_chk cc ret nL t r)
end FeD
section FsU
variable {E : FE} {p : Program} {l : Launch} {e : Env} {R : Room} {s : State} {m : MethodId} {args : Array Value} {below : List Frame} {meth : Method} {c : Code} {nL NF SF N0 S0 : Nat} {Q : State → Prop} {cc : ByteArray} {own : String} {ret : Option FieldType} {S : FS}
theorem fe_okq_s (C : fs_C E p R s m args meth c cc own nL ret NF SF N0 S0) (hwr : ∀ t, 901 ≤ t → t < 905 → E.2.2.2.2.2.2.2 t = true) {q : Nat × Nat × Instr} (h : fe_okq cc ret nL q = true) :
    fs_Snd S own cc ret nL E p l e R s m args below meth c NF SF N0 S0 Q q.1 q.2.1 q.2.2 := by
  unfold fe_okq at h
  rw [Bool.or_eq_true] at h
  rcases h with h | h
  · exact fs_plain C hwr h
  · split at h
    · rename_i d ps e1
      rw [e1]
      exact fs_lsw C h
    · cases h
theorem fe_all (C : fs_C E p R s m args meth c cc own nL ret NF SF N0 S0) (hwr : ∀ t, 901 ≤ t → t < 905 → E.2.2.2.2.2.2.2 t = true) : ∀ (code : List (Nat × Nat × Instr)) (ps : List Nat), fe_chk cc ret nL code ps = true → (∀ q ∈ code.filter (fun q => fe_mem ps q.1), fs_Snd S own cc ret nL E p l e R s m args below meth c NF SF N0 S0 Q q.1 q.2.1 q.2.2) →
    ∀ q ∈ code, fs_Snd S own cc ret nL E p l e R s m args below meth c NF SF N0 S0 Q q.1 q.2.1 q.2.2 := by
  intro code ps hk hc q hq
  by_cases hm : fe_mem ps q.1 = true
  · exact hc q (List.mem_filter.mpr ⟨hq, hm⟩)
  · refine fe_okq_s C hwr ?_
    clear hc
    induction code generalizing ps with
    | nil => cases hq
    | cons a t ih =>
      unfold fe_chk at hk
      by_cases ha : fe_okq cc ret nL a = true
      · rw [if_pos ha] at hk
        rcases List.mem_cons.mp hq with h | h
        · rw [h]; exact ha
        · exact ih ps hk h hm
      · rw [if_neg ha] at hk
        split at hk
        · cases hk
        · rename_i b r
          rw [Bool.and_eq_true] at hk
          rcases List.mem_cons.mp hq with h | h
          · exfalso
            apply hm
            rw [h]
            unfold fe_mem
            rw [Bool.or_eq_true]
            exact Or.inl (by have := Nat.eq_of_beq_eq_true hk.1; rw [this]; exact Nat.beq_refl b)
          · refine ih r hk.2 h ?_
            intro hx
            apply hm
            unfold fe_mem
            rw [Bool.or_eq_true]
            exact Or.inr hx
theorem fe_fil {P : Nat × Nat × Instr → Prop} {code cps : List (Nat × Nat × Instr)} {f : Nat × Nat × Instr → Bool} (h : code.filter f = cps) (hc : ∀ q ∈ cps, P q) : ∀ q ∈ code.filter f, P q := by rw [h]; exact hc
end FsU
