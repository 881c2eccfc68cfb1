/-! the friendly machine reads strings' bytes and the script too (arrays that nothing writes) -/
section Fx
variable {R : Type} (S : FS) (go : Nat → fm_L → List Value → FM → Option R) (kr : Option Value → FM → Option R)
noncomputable def fx_step (ins : Instr) (pc nx : Nat) (L : fm_L) (st : List Value) (M : FM) : Option R := match ins with
  | .caload => fe_ald go 905 905 0 nx L st M
  | .faload => fe_ald go 906 906 0 nx L st M
  | i => fe_step S go kr i pc nx L st M
end Fx
section Fx2
variable {R : Type} (S : FS) (code : List (Nat × Nat × Instr)) (cut : List Nat) (kr : Option Value → FM → Option R) (kc : Nat → fm_L → List Value → FM → Option R)
/-- from an instruction on, up to a return or a cut -/
noncomputable def fx_ev : Nat → List (Nat × Nat × Instr) → fm_L → List Value → FM → Option R
  | 0, _, _, _, _ => none
  | n + 1, rest, L, st, M => match rest with
    | [] => none
    | q :: t => fx_step S (fun pc' L' st' M' => bif fe_mem cut pc' then kc pc' L' st' M' else fx_ev n (fe_sfx code t pc') L' st' M') kr q.2.2 q.1 q.2.1 L st M
end Fx2
