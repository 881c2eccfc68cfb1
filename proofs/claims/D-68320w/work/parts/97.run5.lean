/-! the component: nothing is under way, or a kept instruction is -/
set_option maxRecDepth 100000
section Uw
variable {a c i r : Nat} {w : Int32} {M : FM}
theorem uw_ty {v : Nat} (T : Ty M) (h : v ≠ 0 → fm_is M 61 61 v = true) : Ty (fm_sR M 174 a 0 v) :=
  ⟨ty_sRZ (lo := 61) (hi := 61) (by decide) (by decide) (by decide) (by decide) T.1 h, tyb_sR (by decide) T.2⟩
theorem uw_r {v f b j : Nat} (h : f ≠ 174) : (fm_sR M 174 a 0 v).2.2 f b j = M.2.2 f b j := by
  rw [rR, if_neg (fun q => h q.1)]
theorem uw_dec {v : Nat} (D : Dec c i w M) (h1 : i ≠ a) (h2 : c ≠ a) : Dec c i w (fm_sR M 174 a 0 v) :=
  dec_tr (fun _ _ => rfl) (fun _ _ => rfl) (fun f j => by rw [rR, if_neg (fun q => h1 q.2.1)]) (fun f j => by rw [rR, if_neg (fun q => h2 q.2.1)]) D
theorem uw_decT {v : Nat} (D : DecT c M) : DecT c (fm_sR M 174 a 0 v) := by
  unfold DecT at *
  simp only [uw_r (M := M) (a := a) (v := v) (show (0 : Nat) ≠ 174 by decide), uw_r (M := M) (a := a) (v := v) (show (161 : Nat) ≠ 174 by decide), uw_r (M := M) (a := a) (v := v) (show (162 : Nat) ≠ 174 by decide), uw_r (M := M) (a := a) (v := v) (show (163 : Nat) ≠ 174 by decide), uw_r (M := M) (a := a) (v := v) (show (164 : Nat) ≠ 174 by decide), uw_r (M := M) (a := a) (v := v) (show (165 : Nat) ≠ 174 by decide), uw_r (M := M) (a := a) (v := v) (show (166 : Nat) ≠ 174 by decide), uw_r (M := M) (a := a) (v := v) (show (167 : Nat) ≠ 174 by decide), uw_r (M := M) (a := a) (v := v) (show (168 : Nat) ≠ 174 by decide), uw_r (M := M) (a := a) (v := v) (show (169 : Nat) ≠ 174 by decide), uw_r (M := M) (a := a) (v := v) (show (170 : Nat) ≠ 174 by decide)]
  exact D
end Uw
