/-! memory only grows -/
def fe_SB (S : FS) : Prop := (∀ i As M M', S.1 i As M = some M' → fm_nx M ≤ fm_nx M' ∧ fm_ns M ≤ fm_ns M') ∧ (∀ i As M r, S.2.1 i As M = some r → fm_nx M ≤ fm_nx r.2 ∧ fm_ns M ≤ fm_ns r.2) ∧ (∀ i As M r, S.2.2.1 i As M = some r → fm_nx M ≤ fm_nx r.2 ∧ fm_ns M ≤ fm_ns r.2) ∧ ∀ i As M r, S.2.2.2.1 i As M = some r → fm_nx M ≤ fm_nx r.2 ∧ fm_ns M ≤ fm_ns r.2
section FeB
variable {R : Type} {S : FS} {go : Nat → fm_L → List Value → FM → Option R} {kr : Option Value → FM → Option R} {pc nx : Nat} {L : fm_L} {st : List Value} {M : FM} {r : R} {NF SF : Nat}
theorem fe_B_sR {f a i v : Nat} (hf : f ≠ 2) (h : fe_B NF SF (fm_sR M f a i v)) : fe_B NF SF M := by
  obtain ⟨h1, h2⟩ := h
  refine ⟨?_, ?_⟩
  · have e : fm_nx (fm_sR M f a i v) = fm_nx M := by simp [fm_nx, fm_sR, Ne.symm hf]
    rw [e] at h1
    exact h1
  · have e : fm_ns (fm_sR M f a i v) = fm_ns M := by simp [fm_ns, fm_sR, Ne.symm hf]
    rw [e] at h2
    exact h2
theorem fe_B_sI {f a i : Nat} {v : Int32} (h : fe_B NF SF (fm_sI M f a i v)) : fe_B NF SF M := h
theorem fe_B_sL {f a i : Nat} {v : Int64} (h : fe_B NF SF (fm_sL M f a i v)) : fe_B NF SF M := h
theorem fe_B_new {t n : Nat} (h : fe_B NF SF (fm_new M t n)) : fe_B NF SF M := by
  obtain ⟨h1, h2⟩ := h
  have e1 : fm_nx (fm_new M t n) = fm_nx M + 1 := by simp [fm_nx, fm_new, fm_sR]
  have e2 : fm_ns (fm_new M t n) = fm_ns M + n := by simp [fm_ns, fm_new, fm_sR]
  exact ⟨by omega, by omega⟩
theorem fe_B_newa {t k n : Nat} (h : fe_B NF SF (fm_newa M t k n)) : fe_B NF SF M := by
  obtain ⟨h1, h2⟩ := h
  have e1 : fm_nx (fm_newa M t k n) = fm_nx M + 1 := by simp [fm_nx, fm_newa, fm_sR]
  have e2 : fm_ns (fm_newa M t k n) = fm_ns M + n := by simp [fm_ns, fm_newa, fm_sR]
  exact ⟨by omega, by omega⟩
theorem fe_call_B (hS : fe_SB S) (hgo : ∀ pc' L' st' M', go pc' L' st' M' = some r → fe_B NF SF M') {n : Nat} (h : fe_call S go n nx L st M = some r) : fe_B NF SF M := by
  unfold fe_call at h
  simp only [fe_bif, fe_bif2] at h
  split at h
  · split at h
    · obtain ⟨M', e1, e2⟩ := Option.bind_eq_some_iff.mp h
      have q := hS.1 _ _ _ _ e1
      have k := hgo _ _ _ _ e2
      exact ⟨by have := k.1; omega, by have := k.2; omega⟩
    · split at h
      · obtain ⟨x, e1, e2⟩ := Option.bind_eq_some_iff.mp h
        have q := hS.2.1 _ _ _ _ e1
        have k := hgo _ _ _ _ e2
        exact ⟨by have := k.1; omega, by have := k.2; omega⟩
      · split at h
        · obtain ⟨x, e1, e2⟩ := Option.bind_eq_some_iff.mp h
          have q := hS.2.2.1 _ _ _ _ e1
          have k := hgo _ _ _ _ e2
          exact ⟨by have := k.1; omega, by have := k.2; omega⟩
        · obtain ⟨x, e1, e2⟩ := Option.bind_eq_some_iff.mp h
          have q := hS.2.2.2 _ _ _ _ e1
          have k := hgo _ _ _ _ e2
          exact ⟨by have := k.1; omega, by have := k.2; omega⟩
  · cases h
theorem fe_disp_B (hS : fe_SB S) (hgo : ∀ pc' L' st' M', go pc' L' st' M' = some r → fe_B NF SF M') : ∀ t : List (Nat × Nat × Nat), fe_disp S go nx L st M t = some r → fe_B NF SF M := by
  intro t
  induction t with
  | nil => intro h; cases h
  | cons x t ih =>
    intro h
    obtain ⟨lo, hi, n⟩ := x
    unfold fe_disp at h
    simp only [fi_if] at h
    split at h
    · exact fe_call_B hS hgo h
    · exact ih h
theorem fe_sw_B (hgo : ∀ pc' L' st' M', go pc' L' st' M' = some r → fe_B NF SF M') {d lo : Int} {offs : List Int} {x : Int32} (h : fe_sw go pc d lo offs L st M x = some r) : fe_B NF SF M := by
  rcases fe_sw_spec _ _ h with ⟨k, o, e1, e2, e3⟩ | ⟨e1, e2⟩
  · exact hgo _ _ _ _ e3
  · exact hgo _ _ _ _ e2
theorem fe_lsw_B (hgo : ∀ pc' L' st' M', go pc' L' st' M' = some r → fe_B NF SF M') {d : Int} {x : Int32} : ∀ ps : List (Int × Int), fe_lsw go pc d ps L st M x = some r → fe_B NF SF M := by
  intro ps
  induction ps with
  | nil => intro h; exact hgo _ _ _ _ h
  | cons q t ih =>
    intro h
    unfold fe_lsw at h
    simp only [fi_if] at h
    split at h
    · exact hgo _ _ _ _ h
    · exact ih h
set_option maxHeartbeats 4000000 in
theorem fx_step_B {ins : Instr} (hput : ∀ n, ins = .putfield n → 10 ≤ n / 4194304) (hS : fe_SB S) (h : fx_step S go kr ins pc nx L st M = some r) (hgo : ∀ pc' L' st' M', go pc' L' st' M' = some r → fe_B NF SF M') (hkr : ∀ v M', kr v M' = some r → fe_B NF SF M') : fe_B NF SF M := by
  cases ins
  case putfield n =>
    have hn := hput n rfl
    have hn2 : n / 4194304 ≠ 2 := by omega
    dsimp only [fx_step, fe_step] at h
    try simp only [fi_if] at h
    unfold fe_put at h
    simp only [fi_if] at h
    simp only [fe_bif] at h
    repeat' split at h
    all_goals first
      | (cases h; done)
      | exact hgo _ _ _ _ h
      | exact fe_B_sR hn2 (hgo _ _ _ _ h)
      | exact fe_B_sI (hgo _ _ _ _ h)
      | exact fe_B_sL (hgo _ _ _ _ h)
  case invokestatic n => exact fe_call_B hS hgo h
  case monitorenter =>
    dsimp only [fx_step, fe_step] at h
    try simp only [fi_if] at h
    split at h
    · rename_i a st'
      split at h
      · cases h
      · cases hst : Nat.ble (st'.map Value.category).sum 8 with
        | false => rw [hst] at h; cases h
        | true => rw [hst] at h; exact hgo _ _ _ _ h
    · cases h
  case invokevirtual n =>
    dsimp only [fx_step, fe_step] at h
    try simp only [fi_if] at h
    split at h
    · exact fe_call_B hS hgo h
    · cases h
  case invokeinterface i k =>
    dsimp only [fx_step, fe_step] at h
    try simp only [fi_if] at h
    split at h
    · exact fe_disp_B hS hgo _ h
    · cases h
  case tableswitch a b c d =>
    dsimp only [fx_step, fe_step] at h
    try simp only [fi_if] at h
    split at h
    · exact fe_sw_B hgo h
    · cases h
  case lookupswitch a b =>
    dsimp only [fx_step, fe_step] at h
    try simp only [fi_if] at h
    split at h
    · exact fe_lsw_B hgo _ h
    · cases h
  all_goals
    first
      | (dsimp only [fx_step, fe_step] at h; cases h; done)
      | (dsimp only [fx_step, fe_step] at h
         try unfold fe_bin at h
         try unfold fe_div at h
         try unfold fe_lbin at h
         try unfold fe_ldiv at h
         try unfold fe_lsh at h
         try unfold fe_un at h
         try unfold fe_ldi at h
         try unfold fe_ldl at h
         try unfold fe_lda at h
         try unfold fe_if0 at h
         try unfold fe_if2 at h
         try unfold fe_ifa at h
         try unfold fe_get at h
         try unfold fe_ald at h
         try unfold fe_ast at h
         try unfold fe_astl at h
         try unfold fe_astr at h
         try unfold fe_newa at h
         try simp only [fe_bif, fi_if] at h
         repeat' split at h
         all_goals try unfold fe_br at h
         all_goals try simp only [fi_if] at h
         all_goals repeat' split at h
         all_goals first
           | (cases h; done)
           | exact hgo _ _ _ _ h
           | exact hkr _ _ h
           | exact fe_B_sI (hgo _ _ _ _ h)
           | exact fe_B_sL (hgo _ _ _ _ h)
           | exact fe_B_sR (f := 3) (M := M) (by decide) (hgo _ _ _ _ h)
           | exact fe_B_new (hgo _ _ _ _ h)
           | exact fe_B_newa (hgo _ _ _ _ h))
end FeB
/-- the code's fields are fields -/
def fe_pf (code : List (Nat × Nat × Instr)) : Bool := code.all fun q => match q.2.2 with
  | .putfield n => decide (10 ≤ n / 4194304)
  | _ => true
theorem fe_mono {S : FS} {code : List (Nat × Nat × Instr)} {cut : List Nat} {R : Type} {kr : Option Value → FM → Option R} {heads : List Nat} {fu : Nat} {Fc : Nat → Nat → fm_L → List Value → FM → Option R} {r : R} {M M' : FM} {v : Option Value} (hS : fe_SB S) (hpf : fe_pf code = true) (hH : fe_H S code cut kr heads fu Fc)
    (hkr : ∀ v' M'', kr v' M'' = some r → v' = v ∧ M'' = M') (n : Nat) (hc0 : fe_mem cut 0 = true) {L0 : fm_L} (hF : Fc n 0 L0 [] M = some r) : fm_nx M ≤ fm_nx M' ∧ fm_ns M ≤ fm_ns M' := by
  refine fe_cuts (J := fun _ _ _ M0 => fe_B (fm_nx M') (fm_ns M') M0) (fun _ _ _ _ _ _ h => h) (fun q hq go L st M0 h hgo => ?_) hH n (fe_rank heads 0 + 1) 0 (Nat.lt_succ_self _) L0 [] M hc0 hF
  refine fx_step_B (fun n hn => ?_) hS h (fun pc' L' st' M1 hg => hgo _ _ _ _ hg) (fun v' M1 hk => ?_)
  · have := List.all_eq_true.mp hpf q hq
    rw [hn] at this
    simpa using this
  · obtain ⟨-, rfl⟩ := hkr v' M1 hk
    exact ⟨Nat.le_refl _, Nat.le_refl _⟩
/-! answers -/
def fe_kv : Option Value → FM → Option FM := fun v M => match v with
  | none => some M
  | _ => none
def fe_ki : Option Value → FM → Option (Int32 × FM) := fun v M => match v with
  | some (.int x) => some (x, M)
  | _ => none
def fe_kl : Option Value → FM → Option (Int64 × FM) := fun v M => match v with
  | some (.long x) => some (x, M)
  | _ => none
def fe_ka : Option Value → FM → Option (Nat × FM) := fun v M => match v with
  | some (.ref x) => some (x, M)
  | _ => none
