/-! a method: blocks between cuts, loops by fuel, the contract -/
theorem fe_from_mem {code : List (Nat × Nat × Instr)} {pc : Nat} {q : Nat × Nat × Instr} {t : List (Nat × Nat × Instr)} (h : fe_from code pc = q :: t) : q.1 = pc ∧ ∀ x ∈ q :: t, x ∈ code := by
  induction code with
  | nil => cases h
  | cons a r ih =>
    unfold fe_from at h
    rw [fe_bif] at h
    split at h
    · rename_i e
      cases h
      exact ⟨e, fun x hx => hx⟩
    · obtain ⟨h1, h2⟩ := ih h
      exact ⟨h1, fun x hx => List.mem_cons_of_mem _ (h2 x hx)⟩
theorem fe_sfx_mem {code t : List (Nat × Nat × Instr)} (ht : ∀ x ∈ t, x ∈ code) {pc : Nat} {q : Nat × Nat × Instr} {t' : List (Nat × Nat × Instr)} (h : fe_sfx code t pc = q :: t') : q.1 = pc ∧ ∀ x ∈ q :: t', x ∈ code := by
  unfold fe_sfx at h
  split at h
  · rw [fe_bif] at h
    split at h
    · rename_i e
      cases h
      exact ⟨e, ht⟩
    · exact fe_from_mem h
  · exact fe_from_mem h
/-- each instruction keeps a judgement -/
def fe_J (S : FS) (code : List (Nat × Nat × Instr)) {R : Type} (kr : Option Value → FM → Option R) (r : R) (J : Nat → fm_L → List Value → FM → Prop) : Prop :=
  ∀ q ∈ code, ∀ (go : Nat → fm_L → List Value → FM → Option R) (L : fm_L) (st : List Value) (M : FM), fx_step S go kr q.2.2 q.1 q.2.1 L st M = some r → (∀ pc' L' st' M', go pc' L' st' M' = some r → J pc' L' st' M') → J q.1 L st M
theorem fx_ev_J {S : FS} {code : List (Nat × Nat × Instr)} {cut : List Nat} {R : Type} {kr : Option Value → FM → Option R} {kc : Nat → fm_L → List Value → FM → Option R} {r : R} {J : Nat → fm_L → List Value → FM → Prop} (hJ : fe_J S code kr r J)
    (hk : ∀ pc L st M, fe_mem cut pc = true → kc pc L st M = some r → J pc L st M) : ∀ (n : Nat) (t : List (Nat × Nat × Instr)) (pc : Nat) (L : fm_L) (st : List Value) (M : FM), (∀ x ∈ t, x ∈ code) → fx_ev S code cut kr kc n (fe_sfx code t pc) L st M = some r → J pc L st M := by
  intro n
  induction n with
  | zero => intro t pc L st M _ h; cases h
  | succ n ih =>
    intro t pc L st M ht h
    unfold fx_ev at h
    split at h
    · cases h
    · rename_i q t' hat
      obtain ⟨e, hm⟩ := fe_sfx_mem ht hat
      rw [← e]
      refine hJ _ (hm q List.mem_cons_self) _ L st M h (fun pc' L' st' M' hg => ?_)
      cases hc : fe_mem cut pc' with
      | true =>
        rw [hc] at hg
        exact hk _ _ _ _ hc hg
      | false =>
        rw [hc] at hg
        exact ih t' _ _ _ _ (fun x hx => hm x (List.mem_cons_of_mem _ hx)) hg
/-- heads of loops come last, other cuts by their place -/
def fe_rank (heads : List Nat) (pc : Nat) : Nat := bif fe_mem heads pc then 0 else 100000 - pc
/-- the functions at cuts are what the code does from there on: at heads of loops with less fuel, elsewhere to cuts of lower rank; fewer locals may be known -/
def fe_H (S : FS) (code : List (Nat × Nat × Instr)) (cut : List Nat) {R : Type} (kr : Option Value → FM → Option R) (heads : List Nat) (fu : Nat) (Fc : Nat → Nat → fm_L → List Value → FM → Option R) : Prop :=
  ∀ (n pc : Nat) (L : fm_L) (st : List Value) (M : FM) (r : R), fe_mem cut pc = true → Fc n pc L st M = some r → ∃ L0 : fm_L, (∀ q ∈ L0, q ∈ L) ∧
    ((∃ n', n = n' + 1 ∧ fx_ev S code cut kr (Fc n') fu (fe_from code pc) L0 st M = some r) ∨
      fx_ev S code cut kr (fun pc' L' st' M' => bif Nat.blt (fe_rank heads pc') (fe_rank heads pc) then Fc n pc' L' st' M' else none) fu (fe_from code pc) L0 st M = some r)
theorem fe_cuts {S : FS} {code : List (Nat × Nat × Instr)} {cut : List Nat} {R : Type} {kr : Option Value → FM → Option R} {heads : List Nat} {fu : Nat} {Fc : Nat → Nat → fm_L → List Value → FM → Option R} {r : R} {J : Nat → fm_L → List Value → FM → Prop}
    (hm : ∀ (pc : Nat) (L0 L : fm_L) (st : List Value) (M : FM), (∀ q ∈ L0, q ∈ L) → J pc L0 st M → J pc L st M)
    (hJ : fe_J S code kr r J) (hH : fe_H S code cut kr heads fu Fc) : ∀ (n : Nat) (k pc : Nat), fe_rank heads pc < k → ∀ (L : fm_L) (st : List Value) (M : FM), fe_mem cut pc = true → Fc n pc L st M = some r → J pc L st M := by
  intro n
  induction n with
  | zero =>
    intro k
    induction k with
    | zero => intro pc h; exact absurd h (Nat.not_lt_zero _)
    | succ k ih =>
      intro pc hr L st M hc h
      obtain ⟨L0, hL, h2 | h2⟩ := hH 0 pc L st M r hc h
      · obtain ⟨n', e, -⟩ := h2
        cases e
      · refine hm _ _ _ _ _ hL (fx_ev_J hJ (fun pc' L' st' M' hc' hg => ?_) fu [] pc L0 st M (fun x hx => by cases hx) h2)
        cases hb : Nat.blt (fe_rank heads pc') (fe_rank heads pc) with
        | true =>
          rw [hb] at hg
          have := Nat.blt_eq.mp hb
          exact ih pc' (by omega) L' st' M' hc' hg
        | false =>
          rw [hb] at hg
          cases hg
  | succ n ihn =>
    intro k
    induction k with
    | zero => intro pc h; exact absurd h (Nat.not_lt_zero _)
    | succ k ih =>
      intro pc hr L st M hc h
      obtain ⟨L0, hL, h2 | h2⟩ := hH (n + 1) pc L st M r hc h
      · obtain ⟨n', e, h3⟩ := h2
        cases e
        exact hm _ _ _ _ _ hL (fx_ev_J hJ (fun pc' L' st' M' hc' hg => ihn (fe_rank heads pc' + 1) pc' (Nat.lt_succ_self _) L' st' M' hc' hg) fu [] pc L0 st M (fun x hx => by cases hx) h3)
      · refine hm _ _ _ _ _ hL (fx_ev_J hJ (fun pc' L' st' M' hc' hg => ?_) fu [] pc L0 st M (fun x hx => by cases hx) h2)
        cases hb : Nat.blt (fe_rank heads pc') (fe_rank heads pc) with
        | true =>
          rw [hb] at hg
          have := Nat.blt_eq.mp hb
          exact ih pc' (by omega) L' st' M' hc' hg
        | false =>
          rw [hb] at hg
          cases hg
section FsM
variable {E : FE} {l : Launch} {d : Nat} {y : MethodName} {cc : ByteArray} {nL : Nat} {ret : Option FieldType} {S : FS} {code : List (Nat × Nat × Instr)} {cut : List Nat} {R : Type} {kr : Option Value → FM → Option R} {heads : List Nat} {fu : Nat} {Fc : Nat → Nat → fm_L → List Value → FM → Option R}
def fe_B (NF SF : Nat) (M : FM) : Prop := fm_nx M ≤ NF ∧ fm_ns M ≤ SF
/-- what a byte or a char is -/
def fs_nr (ret : Option FieldType) (v : Option Value) : Prop := ∀ x, v = some (.int x) → ∀ ty, ret = some ty → (ty = .byte ∨ ty = .char) → narrow ty (.int x) = .int x
theorem fs_nr_o {ret : Option FieldType} {v : Option Value} (h1 : ret ≠ some .byte) (h2 : ret ≠ some .char) : fs_nr ret v := fun x _ ty e h => by
  rcases h with rfl | rfl
  · exact absurd e h1
  · exact absurd e h2
theorem fs_ret {own : String} {p : Program} {e : Env} {Rm : Room} {s : State} {m : MethodId} {args : Array Value} {below : List Frame} {meth : Method} {c : Code} {N0 S0 : Nat} {v : Option Value} {M' : FM} (C : fs_C E p Rm s m args meth c cc own nL ret (fm_nx M') (fm_ns M') N0 S0) (hnr : fs_nr ret v) :
    fs_R E p l e Rm s m args below meth c cc ret (fm_nx M') (fm_ns M') N0 S0 (MQ below (fs_Qc E v M') args s (fm_nx M' - N0) (fm_ns M' - S0) (fun q => E.2.1.size ≤ q)) v M' := by
  obtain ⟨hx, hb, hml, hown, hwm, hlk0, hr, hRR, hE⟩ := C
  refine ⟨⟨Nat.le_refl _, Nat.le_refl _⟩, fun H ls locs cells slots pc h1 h2 h3 h4 h5 => ?_⟩
  obtain rfl : cells = fm_nx M' - N0 := by omega
  obtain rfl : slots = fm_ns M' - S0 := by omega
  have hq : ∀ t : State, t.heap = H → s.WarmedH t.vm → fs_Qc E v M' args s (.returned (v.map (fs_tr E))) t := fun t ht _ => ⟨rfl, by rw [ht]; exact h1⟩
  cases v with
  | none =>
    obtain ⟨hd, hrt⟩ := h5
    exact W.vret hx hb (hr.trans hrt) hq h2 hd
  | some v =>
    cases v with
    | int x =>
      obtain ⟨hd, hrt | ⟨hrt, hv⟩ | hrt | hrt⟩ := h5
      · exact W.iret hx hb (hr.trans hrt) hq h2 hd
      · exact W.zret hx hb (hr.trans hrt) (by rcases hv with rfl | rfl <;> rfl) hq h2 hd
      · exact W.zret hx hb (hr.trans hrt) (hnr x rfl _ hrt (Or.inl rfl)) hq h2 hd
      · exact W.zret hx hb (hr.trans hrt) (hnr x rfl _ hrt (Or.inr rfl)) hq h2 hd
    | long x =>
      obtain ⟨hd, hrt⟩ := h5
      exact W.lret hx hb (hr.trans hrt) hq h2 hd
    | ref x =>
      obtain ⟨hd, hrt⟩ := h5
      have hv : fs_rv E x = .null ∨ ∃ a, fs_rv E x = .ref a := by
        rcases fs_rv_c E x with ⟨-, e⟩ | ⟨-, e⟩
        · exact Or.inl e
        · exact Or.inr ⟨_, e⟩
      rcases hrt with ⟨n, hrt⟩ | ⟨t, hrt⟩
      · exact W.aret hx hb (hr.trans hrt) (Or.inl ⟨_, rfl⟩) hv hq h2 hd
      · exact W.aret hx hb (hr.trans hrt) (Or.inr ⟨_, rfl⟩) hv hq h2 hd
    | float x => exact absurd h5 (fun h => h)
    | double x => exact absurd h5 (fun h => h)
    | null => exact absurd h5 (fun h => h)
    | retAddr x => exact absurd h5 (fun h => h)
/-- THE METHOD: out of its blocks, its contract -/
theorem fs_method {As : List Value} {M M' : FM} {v : Option Value} {r : R} {own : String} (hown : y.cls = own) (hpl : plainName y.cls = true) (hE : fs_good E) (hargs : (lg_sl (As.map (fs_tr E))).length ≤ nL)
    (hB : fm_nx M ≤ fm_nx M' ∧ fm_ns M ≤ fm_ns M') (hH : fe_H S code cut kr heads fu Fc) (n : Nat) (hc0 : fe_mem cut 0 = true) {L0 : fm_L} (hL0 : ∀ E : FE, fs_lt E L0 = lv_args 0 (As.map (fs_tr E)))
    (hF : Fc n 0 L0 [] M = some r) (hkr : ∀ v' M'', kr v' M'' = some r → v' = v ∧ M'' = M') (hnr : ∀ H, fs_Rel E M H → fs_nr ret v)
    (hsnd : ∀ (p : Program) (e : Env) (s : State) (m : MethodId) (args : Array Value) (below : List Frame) (meth : Method) (c : Code) (Q : State → Prop), fs_C E p (fs_rm d M M') s m args meth c cc own nL ret (fm_nx M') (fm_ns M') (fm_nx M) (fm_ns M) → meth.name = y.name → ∀ q ∈ code, fs_Snd S own cc ret nL E p l e (fs_rm d M M') s m args below meth c (fm_nx M') (fm_ns M') (fm_nx M) (fm_ns M) Q q.1 q.2.1 q.2.2) :
    fs_Con E l d y cc nL ret As M v M' := by
  refine ⟨hB, ?_⟩
  refine Met.ofW (cc := cc) (maxL := nL) (ret := ret) hpl rfl ?_
  intro p e s m args below meth c s₁ B hml hv
  obtain ⟨rfl, hwm, hR⟩ := hv
  have hf : s.vm.findClass own = some m.cls := by
    rw [← hown]
    exact findClass_of_methodNamed B.named
  have hnm : meth.name = y.name := (name_of_methodNamed B.named B.method).1
  have C : fs_C E p (fs_rm d M M') s m (As.map (fs_tr E)).toArray meth c cc own nL ret (fm_nx M') (fm_ns M') (fm_nx M) (fm_ns M) :=
    ⟨B.exec, B.bytes, hml, hf, hwm, B.notSynchronized, B.returns, ⟨by show fm_nx M' - fm_nx M + fm_nx M = _; omega, by show fm_ns M' - fm_ns M + fm_ns M = _; omega⟩, hE⟩
  have key := fe_cuts (J := fs_G E p l e (fs_rm d M M') s m (As.map (fs_tr E)).toArray below meth c nL (fm_nx M') (fm_ns M') (fm_nx M) (fm_ns M) (MQ below (fs_Qc E v M') (As.map (fs_tr E)).toArray s (fm_nx M' - fm_nx M) (fm_ns M' - fm_ns M) (fun q => E.2.1.size ≤ q)))
    (fun pc L1 L st M0 hq hg => ⟨hg.1, fun H ls locs cells slots h1 h2 h3 h4 h5 => hg.2 H ls locs cells slots h1 ⟨h2.1, h2.2.1, fun q hq2 => by
      obtain ⟨w, hw, rfl⟩ := List.mem_map.mp hq2
      exact h2.2.2 _ (List.mem_map.mpr ⟨w, hq w hw, rfl⟩)⟩ h3 h4 h5⟩)
    (fun q hq go L st M0 h hgo => hsnd p e s m _ below meth c _ C hnm q hq R go kr r L st M0 h hgo (fun v' M'' hk => by obtain ⟨rfl, rfl⟩ := hkr v' M'' hk; exact fs_ret C (hnr _ hR))) hH n (fe_rank heads 0 + 1) 0 (Nat.lt_succ_self _) L0 [] M hc0 hF
  rw [lg_entry_eq]
  refine key.2 s.heap _ [] 0 0 hR ?_ (fun q hq => by cases hq) (by omega) (by omega)
  rw [hL0]
  exact lv_entry _ hargs
end FsM
