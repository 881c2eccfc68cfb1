/-! start: the twin begins: its loops -/
set_option maxRecDepth 100000
theorem rsCo_ty {H c : Nat} {e : Int64} {M : FM} (T : Ty M) : Ty (rsCo H c e M) := ⟨T.1, tyb_sI (f := 353) rfl (M := fm_sL (rz H M 32) 347 c 0 e) T.2⟩
theorem rsDe_ty {H d : Nat} {M : FM} (T : Ty M) : Ty (rsDe H d M) := ⟨T.1, tyb_sI (f := 360) rfl (M := rz H M 4096) T.2⟩
theorem rsWk_ty {H I : Nat} {M : FM} (T : Ty M) : Ty (rsWk H I M) := rz_ty (rzI_ty T)
theorem rsB_ty {R : Rfs} {m h : Nat} {e : Int64} {M : FM} (T : Ty M) : Ty (rsB R m h e M) := by
  have T4 := rsWk_ty (H := R 428 (R 3 (R 306 m 0) h) 0) (I := R 427 (R 3 (R 306 m 0) h) 0) (rsDe_ty (H := R 361 (R 3 (R 305 m 0) h) 0) (d := R 3 (R 305 m 0) h) (rsFl_ty (H := R 367 (R 3 (R 304 m 0) h) 0) (f := R 3 (R 304 m 0) h) (rsCo_ty (H := R 346 (R 3 (R 303 m 0) h) 0) (c := R 3 (R 303 m 0) h) (e := e) T)))
  exact ⟨T4.1, tyb_s3' T4.2 (fun _ => Or.inl rfl)⟩
theorem rsA_ty {R : Rfs} {m cr h : Nat} {e : Int64} {M : FM} (T : Ty M) : Ty (rsA R m cr e h M) := ⟨(rsB_ty (R := R) (m := m) (h := h) (e := e) T).1, (rsB_ty (R := R) (m := m) (h := h) (e := e) T).2⟩
theorem stR_ty {H c k : Nat} {v : Int64} {M : FM} (T : Ty M) : Ty (stR H c k v M) := ⟨T.1, tyb_sI (f := 345) rfl T.2⟩
theorem rsS_ty {R : Rfs} {m h : Nat} {M : FM} (T : Ty M) : Ty (rsS R m h M) := stR_ty (stR_ty T)
theorem asN_ty {R : Rfs} {m cr : Nat} {e : Int64} {M : FM} (T : Ty M) : ∀ n, Ty (asN R m cr e n M)
  | 0 => T
  | n + 1 => rsA_ty (asN_ty T n)
theorem ssN_ty {R : Rfs} {m : Nat} {M : FM} (T : Ty M) : ∀ n, Ty (ssN R m n M)
  | 0 => T
  | n + 1 => rsS_ty (ssN_ty T n)
theorem asN_e {R : Rfs} {m cr : Nat} {e : Int64} {M : FM} : ∀ n, (asN R m cr e n M).2.2 = M.2.2
  | 0 => rfl
  | n + 1 => asN_e n
theorem ssN_e {R : Rfs} {m : Nat} {M : FM} : ∀ n, (ssN R m n M).2.2 = M.2.2
  | 0 => rfl
  | n + 1 => ssN_e n
/-- how the twin stands for a beginning -/
def BgH (m np : Nat) (M : FM) : Prop := ∀ h, h < np → fm_is M 94 94 (M.2.2 3 (M.2.2 303 m 0) h) = true ∧ fm_is M 96 96 (M.2.2 3 (M.2.2 304 m 0) h) = true ∧ fm_is M 95 95 (M.2.2 3 (M.2.2 305 m 0) h) = true ∧ fm_is M 101 101 (M.2.2 3 (M.2.2 306 m 0) h) = true
def BgL (m : Nat) (M : FM) : Prop := M.2.2 1 (M.2.2 303 m 0) 0 = 4 ∧ M.2.2 1 (M.2.2 304 m 0) 0 = 4 ∧ M.2.2 1 (M.2.2 305 m 0) 0 = 4 ∧ M.2.2 1 (M.2.2 306 m 0) 0 = 4 ∧ M.2.2 1 (M.2.2 307 m 0) 0 = 4
def BgT (m cr np : Nat) (e : Int64) (M : FM) : Prop := Ty M ∧ fm_is M 92 92 m = true ∧ M.1 297 m 0 = nI np ∧ np ≤ 4 ∧ (M.2.2 298 m 0 = cr ∧ fm_is M 98 98 cr = true) ∧ M.2.1 313 m 0 = e ∧ BgL m M ∧ BgH m np M
theorem bgT_k {m cr np : Nat} {e : Int64} {M X : FM} (h : BgT m cr np e M) (r : X.2.2 = M.2.2) (T : Ty X) (h1 : X.1 297 m 0 = M.1 297 m 0) (h2 : X.2.1 313 m 0 = M.2.1 313 m 0) : BgT m cr np e X := by
  obtain ⟨_, b1, b2, b3, b4, b5, b6, b7⟩ := h
  refine ⟨T, ?_, h1.trans b2, b3, ?_, h2.trans b5, ?_, ?_⟩
  · unfold fm_is at *
    rw [r]
    exact b1
  · unfold fm_is at *
    rw [r]
    exact b4
  · unfold BgL at *
    rw [r]
    exact b6
  · unfold BgH fm_is at *
    rw [r]
    exact b7
section Be
variable {m cr np h : Nat} {e : Int64} {M : FM}
theorem be_1 (b : BgT m cr np e M) (hh : h < np) : HX92_begin_2 m (nI h) M ∧ GX92_begin_2 m (nI h) M = .inl (m, nI (h + 1), rsA M.2.2 m cr e h M) := by
  obtain ⟨T, n92, v297, np4, ⟨v298, n98⟩, v313, ⟨l3, l4, l5, l6, l7⟩, bh⟩ := b
  obtain ⟨n94, n96, n95, n101⟩ := bh h hh
  have hcl : (nI h).toNatClampNeg = h := o_cl (by omega)
  have hle : ¬ M.1 297 m 0 ≤ nI h := fun q => by rw [v297] at q; have := (n_le (by omega) (by omega)).mp q; omega
  obtain ⟨h1, e1⟩ := sr_core T n94 e
  obtain ⟨C1, hC1, r1, T1⟩ : ∃ C : FM, rsCo (M.2.2 346 (M.2.2 3 (M.2.2 303 m 0) h) 0) (M.2.2 3 (M.2.2 303 m 0) h) e M = C ∧ C.2.2 = M.2.2 ∧ Ty C := ⟨_, rfl, rfl, rsCo_ty T⟩
  rw [hC1] at e1
  have n96' : fm_is C1 96 96 (M.2.2 3 (M.2.2 304 m 0) h) = true := by unfold fm_is at *; rw [r1]; exact n96
  obtain ⟨h2, e2⟩ := sr_float T1 n96'
  rw [r1] at e2
  obtain ⟨C2, hC2, r2, T2⟩ : ∃ C : FM, rsFl (M.2.2 367 (M.2.2 3 (M.2.2 304 m 0) h) 0) (M.2.2 3 (M.2.2 304 m 0) h) C1 = C ∧ C.2.2 = M.2.2 ∧ Ty C := ⟨_, rfl, r1, rsFl_ty T1⟩
  rw [hC2] at e2
  have n95' : fm_is C2 95 95 (M.2.2 3 (M.2.2 305 m 0) h) = true := by unfold fm_is at *; rw [r2]; exact n95
  obtain ⟨h3, e3⟩ := sr_desk T2 n95'
  rw [r2] at e3
  obtain ⟨C3, hC3, r3, T3⟩ : ∃ C : FM, rsDe (M.2.2 361 (M.2.2 3 (M.2.2 305 m 0) h) 0) (M.2.2 3 (M.2.2 305 m 0) h) C2 = C ∧ C.2.2 = M.2.2 ∧ Ty C := ⟨_, rfl, r2, rsDe_ty T2⟩
  rw [hC3] at e3
  have n101' : fm_is C3 101 101 (M.2.2 3 (M.2.2 306 m 0) h) = true := by unfold fm_is at *; rw [r3]; exact n101
  obtain ⟨h4, e4⟩ := sr_walk T3 n101'
  rw [r3] at e4
  obtain ⟨C4, hC4, r4, T4⟩ : ∃ C : FM, rsWk (M.2.2 428 (M.2.2 3 (M.2.2 306 m 0) h) 0) (M.2.2 427 (M.2.2 3 (M.2.2 306 m 0) h) 0) C3 = C ∧ C.2.2 = M.2.2 ∧ Ty C := ⟨_, rfl, r3, rsWk_ty T3⟩
  rw [hC4] at e4
  have e5 : GX93_drop cr (nI h) C4 = fm_sL C4 3 (M.2.2 389 cr 0) h (Int64.ofInt 0) := by
    unfold GX93_drop GX93_drop_0
    try dsimp only
    rw [hcl, r4]
  have i9 : fm_in C4 (C4.2.2 389 cr 0) (nI h) = true := by
    have := tL_389 T4.1 (show fm_is C4 98 98 cr = true by unfold fm_is at *; rw [r4]; exact n98)
    exact in_nI this (by omega) (by decide)
  have i3 := fun (f : Nat) (C : FM) (r : C.2.2 = M.2.2) (hl : M.2.2 1 (M.2.2 f m 0) 0 = 4) => (show fm_in C (C.2.2 f m 0) (nI h) = true from in_nI (N := 4) (by rw [r]; exact hl) (by omega) (by decide))
  constructor
  · unfold HX92_begin_2
    refine ⟨fun q => absurd q hle, fun _ => ?_⟩
    try dsimp only
    rw [hcl, v313, e1]
    try dsimp only
    rw [r1, e2]
    try dsimp only
    rw [r2, e3]
    try dsimp only
    rw [r3, e4]
    try dsimp only
    rw [r4, v298, e5]
    refine ⟨i3 303 M rfl l3, n94, h1, ?_, n96', h2, ?_, n95', h3, ?_, n101', h4, ?_, ?_, trivial⟩
    · have := i3 304 C1 r1 l4
      rw [r1] at this
      exact this
    · have := i3 305 C2 r2 l5
      rw [r2] at this
      exact this
    · have := i3 306 C3 r3 l6
      rw [r3] at this
      exact this
    · exact ⟨i9, trivial⟩
    · have := i3 307 C4 r4 l7
      exact this
  · unfold GX92_begin_2
    rw [fi_neg hle]
    try dsimp only
    rw [hcl, v313, e1]
    try dsimp only
    rw [r1, e2]
    try dsimp only
    rw [r2, e3]
    try dsimp only
    rw [r3, e4]
    try dsimp only
    rw [r4, v298, e5, up_1 (by omega), show (Int32.ofInt 0 &&& 1 : Int32) = Int32.ofInt 0 by decide]
    subst hC4 hC3 hC2 hC1
    show Sum.inl (m, nI (h + 1), fm_sI (fm_sL _ 3 (M.2.2 389 cr 0) h (Int64.ofInt 0)) 3 _ h (Int32.ofInt 0)) = _
    rfl
end Be
