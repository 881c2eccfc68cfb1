/-! the component: the end of an instruction that wanted something -/
set_option maxRecDepth 100000
section Fn
variable {a i dk : Nat} {M : FM}
noncomputable def cput (r dk : Nat) (x : Int64) (M : FM) : FM := if dk = 0 then M else fm_sL M 3 (M.2.2 178 r 0) dk x
noncomputable def cend (a : Nat) (N : FM) : FM :=
  fm_sL (fm_sR (fm_sL N 179 (N.2.2 171 a 0) 0 (N.2.1 179 (N.2.2 171 a 0) 0 + (N.1 176 a 0).toInt64)) 174 a 0 0) 177 a 0 (N.2.1 177 a 0 + Int64.ofInt 1)
/-- what comes into the register -/
noncomputable def cval2 (i : Nat) (v : Int64) (M : FM) : Int64 := fi (fm_is M 53 53 (M.2.2 149 i 0) = true) (fin (M.1 158 i 0) (M.1 159 i 0) (M.1 160 i 0) v) v
theorem c25 {N : FM} (e : (M.1 158 i 0) = (N.1 158 i 0)) : GX47_finish_25 a i N = (M.1 158 i 0, cend a N) := by
  rw [e]
  rfl
theorem X47_finish (T : Ty M) (nr : fm_is M 64 64 (M.2.2 171 a 0) = true) (hi : M.2.2 174 a 0 = i) (ni : fm_is M 61 61 i = true) (nx : fm_is M 53 60 (M.2.2 149 i 0) = true) (hd : M.1 151 i 0 = nI dk) (hk : dk < 32) (g : Int32) (v : Int64) :
    HX47_finish a g v M ∧ GX47_finish a g v M = (M.1 158 i 0, cend a (fi (g = 0) M (cput (M.2.2 171 a 0) dk (cval2 i v M) M))) := by
  have p57 := fun x => X57_finish T nr x i v hk hd
  have p50 := fun x => X50_finish T nr x i v hk hd
  have eset : ∀ y, GX48_set (M.2.2 171 a 0) (nI dk) y M = cput (M.2.2 171 a 0) dk y M := fun y => X48_set hk y
  have hne60 : ∀ {x : Nat}, fm_is M 53 60 x = true → ¬ fm_is M 53 53 x = true → ¬ fm_is M 54 54 x = true → ¬ fm_is M 55 55 x = true → ¬ fm_is M 56 56 x = true → ¬ fm_is M 57 57 x = true → ¬ fm_is M 58 58 x = true → ¬ fm_is M 59 59 x = true → fm_is M 60 60 x = true := fun {x} h h1 h2 h3 h4 h5 h6 h7 => by
    have t := fm_isd h
    have q : ∀ {k : Nat}, ¬ fm_is M k k x = true → M.2.2 0 x 0 ≠ k := fun {k} h e => h (fm_isi (by rw [e]; exact Nat.le_refl _) (by rw [e]; exact Nat.le_refl _))
    have := q h1
    have := q h2
    have := q h3
    have := q h4
    have := q h5
    have := q h6
    have := q h7
    exact fm_isi (by omega) (by omega)
  constructor
  · unfold HX47_finish HX47_finish_0
    dsimp only
    rw [hi]
    exact ⟨fun _ => ⟨ni, trivial⟩, fun _ => ⟨ni, ⟨⟨fun _ => ⟨ni, (p57 _).1⟩, fun h1 => ⟨fun _ => ⟨ni, (p50 _).1⟩, fun h2 => ⟨fun _ => ⟨ni, (p50 _).1⟩, fun h3 => ⟨fun _ => ⟨ni, (p50 _).1⟩, fun h4 => ⟨fun _ => ⟨ni, (p50 _).1⟩, fun h5 => ⟨fun _ => ⟨ni, (p50 _).1⟩, fun h6 => ⟨fun _ => ⟨ni, (p50 _).1⟩, fun h7 => ⟨hne60 nx h1 h2 h3 h4 h5 h6 h7, ni, (p50 _).1⟩⟩⟩⟩⟩⟩⟩⟩, by
      rw [(p57 _).2, (p50 _).2, fi_self, fi_self, fi_self, fi_self, fi_self, fi_self, eset, eset]
      refine ⟨?_, trivial⟩
      have e2 : ∀ (P : Prop) (y z : Int64), (fi P (cput (M.2.2 171 a 0) dk y M) (cput (M.2.2 171 a 0) dk z M)).2.2 = M.2.2 := fun P y z => by
        have c2 : ∀ y, (cput (M.2.2 171 a 0) dk y M).2.2 = M.2.2 := fun y => by
          unfold cput
          by_cases q : dk = 0
          · rw [if_pos q]
          · rw [if_neg q]
            rfl
        by_cases q : P
        · rw [fi_pos q]; exact c2 y
        · rw [fi_neg q]; exact c2 z
      unfold fm_is at ni ⊢
      rw [e2]
      exact ni⟩⟩⟩
  · unfold GX47_finish GX47_finish_0
    dsimp only
    rw [hi, (p57 _).2, (p50 _).2, fi_self, fi_self, fi_self, fi_self, fi_self, fi_self, eset, eset]
    by_cases h0 : g = 0
    · rw [fi_pos h0, fi_pos h0]
      exact c25 rfl
    · rw [fi_neg h0, fi_neg h0]
      have e : fi (fm_is M 53 53 (M.2.2 149 i 0) = true) (cput (M.2.2 171 a 0) dk (fin (M.1 158 i 0) (M.1 159 i 0) (M.1 160 i 0) v) M) (cput (M.2.2 171 a 0) dk v M) = cput (M.2.2 171 a 0) dk (cval2 i v M) M := by
        unfold cval2
        by_cases q : fm_is M 53 53 (M.2.2 149 i 0) = true
        · rw [fi_pos q, fi_pos q]
        · rw [fi_neg q, fi_neg q]
      rw [e]
      refine c25 ?_
      unfold cput
      by_cases q : dk = 0
      · rw [if_pos q]
      · rw [if_neg q]
        rfl
end Fn
