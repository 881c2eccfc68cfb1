/-! start: the twin begins: its loops, whole -/
set_option maxRecDepth 100000
theorem asN_297 {R : Rfs} {m cr b : Nat} {e : Int64} {M : FM} : ∀ n, (asN R m cr e n M).1 297 b 0 = M.1 297 b 0
  | 0 => rfl
  | n + 1 => asN_297 n
theorem asN_416 {R : Rfs} {m cr b : Nat} {e : Int64} {M : FM} : ∀ n, (asN R m cr e n M).1 416 b 0 = M.1 416 b 0
  | 0 => rfl
  | n + 1 => asN_416 n
theorem asN_313 {R : Rfs} {m cr b : Nat} {e : Int64} {M : FM} : ∀ n, (asN R m cr e n M).2.1 313 b 0 = M.2.1 313 b 0
  | 0 => rfl
  | n + 1 => asN_313 n
theorem ssN_297 {R : Rfs} {m b : Nat} {M : FM} : ∀ n, (ssN R m n M).1 297 b 0 = M.1 297 b 0
  | 0 => rfl
  | n + 1 => ssN_297 n
theorem ssN_416 {R : Rfs} {m b : Nat} {M : FM} : ∀ n, (ssN R m n M).1 416 b 0 = M.1 416 b 0
  | 0 => rfl
  | n + 1 => ssN_416 n
theorem ssN_313 {R : Rfs} {m b : Nat} {M : FM} : ∀ n, (ssN R m n M).2.1 313 b 0 = M.2.1 313 b 0
  | 0 => rfl
  | n + 1 => ssN_313 n
def adT (i : Nat) : Int64 := Int64.ofInt 2151669760 + lN i
def ofT (i : Nat) : Nat := 4186112 + i
theorem ad_of {i : Nat} (h : i < 8192) : ul (adT i) = 2147483648 + ofT i ∧ ofT i < 4194304 := by
  unfold adT ofT
  rw [ul_add, ul_lN, show ul (Int64.ofInt 2151669760) = 2151669760 from rfl]
  omega
section Bl
variable {m cr np h N : Nat} {e : Int64} {M X : FM} {v : Nat → Int32}
theorem be_A (b : BgT m cr np e M) : ∀ k h j', h + k = np → (FX92_begin_L fN (k + 1 + j')).1 m (nI h) (asN M.2.2 m cr e h M) = (FX92_begin_L fN j').2.1 m (nI 0) (asN M.2.2 m cr e np M)
  | 0, h, j', hk => by
    have eh : h = np := by omega
    subst eh
    have b' := bgT_k b (asN_e (R := M.2.2) (m := m) (cr := cr) (e := e) h) (asN_ty b.1 h) (asN_297 h) (asN_313 h)
    obtain ⟨T, n92, v297, np4, _⟩ := id b'
    have hle : (asN M.2.2 m cr e h M).1 297 m 0 ≤ nI h := by rw [v297]; exact (n_le (by omega) (by omega)).mpr (Nat.le_refl _)
    rw [show 0 + 1 + j' = j' + 1 by omega]
    show FX92_begin_2 fN (FX92_begin_L fN j').1 (FX92_begin_L fN j').2.1 (FX92_begin_L fN j').2.2 m (nI h) (asN M.2.2 m cr e h M) = _
    rw [(gX92_begin_2 _ _ _ m (nI h) _ T n92 ⟨fun _ => trivial, fun q => absurd hle q⟩).1]
    unfold GX92_begin_2
    rw [fi_pos hle]
    rfl
  | k + 1, h, j', hk => by
    have b' := bgT_k b (asN_e (R := M.2.2) (m := m) (cr := cr) (e := e) h) (asN_ty b.1 h) (asN_297 h) (asN_313 h)
    obtain ⟨h1, h2⟩ := be_1 (h := h) b' (by omega)
    rw [asN_e] at h2
    rw [show k + 1 + 1 + j' = (k + 1 + j') + 1 by omega]
    show FX92_begin_2 fN (FX92_begin_L fN (k + 1 + j')).1 (FX92_begin_L fN (k + 1 + j')).2.1 (FX92_begin_L fN (k + 1 + j')).2.2 m (nI h) (asN M.2.2 m cr e h M) = _
    rw [(gX92_begin_2 _ _ _ m (nI h) _ b'.1 b'.2.1 h1).1, h2]
    exact be_A b k (h + 1) j' (by omega)
theorem puN_ty (T : Ty M) (n : fm_is M 98 98 cr = true) : ∀ k, Ty (puN cr adT ofT v k M)
  | 0 => T
  | k + 1 => pbM_ty (puN_ty T n k) (by
    unfold fm_is at *
    rw [puN_R k]
    exact n) (v k)
theorem puN_313 {b : Nat} : ∀ k, (puN cr adT ofT v k M).2.1 313 b 0 = M.2.1 313 b 0
  | 0 => rfl
  | k + 1 => by
    show fi (313 = 3 ∧ _) _ ((puN cr adT ofT v k M).2.1 313 b 0) = _
    rw [fi_neg (fun z => absurd z.1 (by decide))]
    exact puN_313 k
theorem be_P (b : BgT m cr np e X) (t : TreT m N v X) (hne : X.2.2 415 (X.2.2 302 m 0) 0 ≠ X.2.2 391 cr 0) : ∀ k i j', i + k = N → (FX92_begin_L fN (k + 1 + j')).2.1 m (nI i) (puN cr adT ofT v i X) = (FX92_begin_L fN j').2.2 m (nI 0) (puN cr adT ofT v N X)
  | 0, i, j', hk => by
    have ei : i = N := by omega
    subst ei
    obtain ⟨t1, t2, t3, t4, t5⟩ := t
    have hle : (puN cr adT ofT v i X).1 416 ((puN cr adT ofT v i X).2.2 302 m 0) 0 ≤ nI i := by
      rw [puN_R, puN_1 (fun z => absurd z.1 (by decide)), t1]
      exact (n_le (by omega) (by omega)).mpr (Nat.le_refl _)
    have n92 : fm_is (puN cr adT ofT v i X) 92 92 m = true := by unfold fm_is; rw [puN_R]; exact b.2.1
    rw [show 0 + 1 + j' = j' + 1 by omega]
    show FX92_begin_73 fN (FX92_begin_L fN j').1 (FX92_begin_L fN j').2.1 (FX92_begin_L fN j').2.2 m (nI i) (puN cr adT ofT v i X) = _
    rw [(gX92_begin_73 _ _ _ m (nI i) _ (puN_ty b.1 b.2.2.2.2.1.2 i) n92 ⟨fun _ => trivial, fun q => absurd hle q⟩).1]
    unfold GX92_begin_73
    try dsimp only
    rw [fi_pos hle]
    rfl
  | k + 1, i, j', hk => by
    obtain ⟨t1, t2, t3, t4, t5⟩ := id t
    have hle : ¬ (puN cr adT ofT v i X).1 416 ((puN cr adT ofT v i X).2.2 302 m 0) 0 ≤ nI i := by
      rw [puN_R, puN_1 (fun z => absurd z.1 (by decide)), t1]
      exact fun q => by have := (n_le (by omega) (by omega)).mp q; omega
    have Ti := puN_ty (v := v) b.1 b.2.2.2.2.1.2 i
    have n92 : fm_is (puN cr adT ofT v i X) 92 92 m = true := by unfold fm_is; rw [puN_R]; exact b.2.1
    have n98 : fm_is (puN cr adT ofT v i X) 98 98 cr = true := by unfold fm_is; rw [puN_R]; exact b.2.2.2.2.1.2
    have ei : (nI i).toInt64 = lN i := o_64 (by omega)
    have hcl : (nI i).toNatClampNeg = i := o_cl (by omega)
    have ev : (puN cr adT ofT v i X).1 3 (X.2.2 415 (X.2.2 302 m 0) 0) i = v i := by
      rw [puN_1 (fun z => hne z.2)]
      exact t5 i (by omega)
    obtain ⟨p1, p2⟩ := ad_of (i := i) (by omega)
    obtain ⟨g1, g2⟩ := X93_put Ti n98 p1 p2 (v i)
    have g2' : GX93_put cr (Int64.ofInt 2151669760 + lN i) (v i) (puN cr adT ofT v i X) = puN cr adT ofT v (i + 1) X := g2
    rw [show k + 1 + 1 + j' = (k + 1 + j') + 1 by omega]
    show FX92_begin_73 fN (FX92_begin_L fN (k + 1 + j')).1 (FX92_begin_L fN (k + 1 + j')).2.1 (FX92_begin_L fN (k + 1 + j')).2.2 m (nI i) (puN cr adT ofT v i X) = _
    have H : HX92_begin_73 m (nI i) (puN cr adT ofT v i X) := by
      unfold HX92_begin_73
      try dsimp only
      refine ⟨fun q => absurd q hle, fun _ => ?_⟩
      try dsimp only
      rw [puN_R, hcl, ei, ev, b.2.2.2.2.1.1]
      exact ⟨in_nI (N := X.2.2 1 (X.2.2 415 (X.2.2 302 m 0) 0) 0) (by rw [puN_R]) (by omega) t4, g1, trivial⟩
    rw [(gX92_begin_73 _ _ _ m (nI i) _ Ti n92 H).1]
    unfold GX92_begin_73
    try dsimp only
    rw [fi_neg hle]
    try dsimp only
    rw [puN_R, hcl, ei, ev, b.2.2.2.2.1.1, g2', nI_s (by omega)]
    exact be_P b t hne k (i + 1) j' (by omega)
theorem be_S (b : BgT m cr np e X) (t1 : X.1 416 (X.2.2 302 m 0) 0 = nI N) : ∀ k h j', h + k = np → (FX92_begin_L fN (k + 1 + j')).2.2 m (nI h) (ssN X.2.2 m h X) = some (nI N, fm_sI (ssN X.2.2 m np X) 315 m 0 (Int32.ofInt (-1)))
  | 0, h, j', hk => by
    have eh : h = np := by omega
    subst eh
    have b' := bgT_k b (ssN_e (R := X.2.2) (m := m) h) (ssN_ty b.1 h) (ssN_297 h) (ssN_313 h)
    obtain ⟨T, n92, v297, np4, _⟩ := id b'
    have hle : (ssN X.2.2 m h X).1 297 m 0 ≤ nI h := by rw [v297]; exact (n_le (by omega) (by omega)).mpr (Nat.le_refl _)
    rw [show 0 + 1 + j' = j' + 1 by omega]
    show FX92_begin_114 fN (FX92_begin_L fN j').1 (FX92_begin_L fN j').2.1 (FX92_begin_L fN j').2.2 m (nI h) (ssN X.2.2 m h X) = _
    rw [(gX92_begin_114 _ _ _ m (nI h) _ T n92 ⟨fun _ => trivial, fun q => absurd hle q⟩).1]
    unfold GX92_begin_114
    rw [fi_pos hle]
    try dsimp only
    have e2 : (fm_sI (ssN X.2.2 m h X) 315 m 0 (Int32.ofInt (-1))).2.2 302 m 0 = X.2.2 302 m 0 := by
      show (ssN X.2.2 m h X).2.2 302 m 0 = _
      rw [ssN_e]
    rw [e2, rIf (by decide), ssN_416, t1]
    rfl
  | k + 1, h, j', hk => by
    have b' := bgT_k b (ssN_e (R := X.2.2) (m := m) h) (ssN_ty b.1 h) (ssN_297 h) (ssN_313 h)
    obtain ⟨T, n92, v297, np4, ⟨v298, n98⟩, v313, ⟨l3, l4, l5, l6, l7⟩, bh⟩ := id b'
    obtain ⟨n94, n96, n95, n101⟩ := bh h (by omega)
    have hcl : (nI h).toNatClampNeg = h := o_cl (by omega)
    have ei : (nI h).toInt64 = lN h := o_64 (by omega)
    have hle : ¬ (ssN X.2.2 m h X).1 297 m 0 ≤ nI h := fun q => by rw [v297] at q; have := (n_le (by omega) (by omega)).mp q; omega
    have eR : (ssN X.2.2 m h X).2.2 = X.2.2 := ssN_e h
    obtain ⟨C0, hC0, r0⟩ : ∃ C : FM, ssN X.2.2 m h X = C ∧ C.2.2 = X.2.2 := ⟨_, rfl, eR⟩
    rw [hC0] at T n94 hle n92 l3
    rw [r0] at n94
    obtain ⟨g1, g2⟩ := sr_set T n94 (k := 10) (by decide) (lN h)
    obtain ⟨C1, hC1, r1, T1⟩ : ∃ C : FM, stR (X.2.2 346 (X.2.2 3 (X.2.2 303 m 0) h) 0) (X.2.2 3 (X.2.2 303 m 0) h) 10 (lN h) C0 = C ∧ C.2.2 = X.2.2 ∧ Ty C := ⟨_, rfl, r0, stR_ty T⟩
    rw [r0, hC1] at g2
    have n94' : fm_is C1 94 94 (X.2.2 3 (X.2.2 303 m 0) h) = true := by unfold fm_is at *; rw [r1]; rw [r0] at n94; exact n94
    obtain ⟨g3, g4⟩ := sr_set T1 n94' (k := 11) (by decide) (Int64.ofInt 2151669760)
    rw [r1] at g4
    have g2' : GX98_set (X.2.2 3 (X.2.2 303 m 0) h) (Int32.ofInt 10) (lN h) C0 = C1 := g2
    have g4' : GX98_set (X.2.2 3 (X.2.2 303 m 0) h) (Int32.ofInt 11) (Int64.ofInt 2151669760) C1 = stR (X.2.2 346 (X.2.2 3 (X.2.2 303 m 0) h) 0) (X.2.2 3 (X.2.2 303 m 0) h) 11 (Int64.ofInt 2151669760) C1 := g4
    have e2 : stR (X.2.2 346 (X.2.2 3 (X.2.2 303 m 0) h) 0) (X.2.2 3 (X.2.2 303 m 0) h) 11 (Int64.ofInt 2151669760) C1 = ssN X.2.2 m (h + 1) X := by
      rw [← hC1, ← hC0]
      rfl
    rw [e2] at g4'
    rw [show k + 1 + 1 + j' = (k + 1 + j') + 1 by omega, hC0]
    show FX92_begin_114 fN (FX92_begin_L fN (k + 1 + j')).1 (FX92_begin_L fN (k + 1 + j')).2.1 (FX92_begin_L fN (k + 1 + j')).2.2 m (nI h) C0 = _
    rw [r0] at l3
    have H : HX92_begin_114 m (nI h) C0 := by
      unfold HX92_begin_114
      refine ⟨fun q => absurd q hle, fun _ => ?_⟩
      try dsimp only
      rw [r0, hcl, ei, g2', r1]
      refine ⟨in_nI (N := 4) (by rw [r0]; exact l3) (by omega) (by decide), n94, g1, in_nI (N := 4) (by rw [r1]; exact l3) (by omega) (by decide), n94', g3, trivial⟩
    rw [(gX92_begin_114 _ _ _ m (nI h) _ T n92 H).1]
    unfold GX92_begin_114
    rw [fi_neg hle]
    try dsimp only
    rw [r0, hcl, ei, g2', r1, g4', up_1 (by omega)]
    exact be_S b t1 k (h + 1) j' (by omega)
/-- the twin begins; its writes in the component's order -/
theorem t_begin {ow : Nat → Nat} (b : BgT m cr np e M) (t : TreT m N v M) (OR : OwR ow M.2.2 m cr) (O : ∀ h, h < np → OwH ow M.2.2 m h) (o2 : ow (M.2.2 415 (M.2.2 302 m 0) 0) = 0) (hne : M.2.2 415 (M.2.2 302 m 0) 0 ≠ M.2.2 391 cr 0) (h7 : M.2.2 415 (M.2.2 302 m 0) 0 ≠ M.2.2 307 m 0) (h9 : M.2.2 415 (M.2.2 302 m 0) 0 ≠ M.2.2 389 cr 0) :
    FX92_begin fN m M = some (nI N, fm_sI (saN M.2.2 m cr e np (puN cr adT ofT v N M)) 315 m 0 (Int32.ofInt (-1))) := by
  have np4 := b.2.2.2.1
  have hN := t.2.1
  obtain ⟨j1, hj1⟩ : ∃ j, fN = np + 1 + (N + 1 + (np + 1 + j)) := ⟨fN - (np + 1 + (N + 1 + (np + 1))), by unfold fN; omega⟩
  have b1 := bgT_k b (asN_e (R := M.2.2) (m := m) (cr := cr) (e := e) np) (asN_ty b.1 np) (asN_297 np) (asN_313 np)
  have k1 : IsP M.2.2 (fun f a i => ow a ≠ 0 ∨ a = M.2.2 307 m 0 ∨ a = M.2.2 389 cr 0) (asN M.2.2 m cr e np) := asN_P (ow := ow) (m := m) (cr := cr) (D := fun f a i => ow a ≠ 0 ∨ a = M.2.2 307 m 0 ∨ a = M.2.2 389 cr 0) (fun _ _ _ q => Or.inl q) (fun _ => Or.inr (Or.inl rfl)) (fun _ => Or.inr (Or.inr rfl)) np O
  have t1 : TreT m N v (asN M.2.2 m cr e np M) := by
    obtain ⟨x1, x2, x3, x4, x5⟩ := t
    refine ⟨?_, x2, ?_, ?_, fun k hk => ?_⟩
    · rw [asN_416, asN_e]; exact x1
    · rw [asN_e]; exact x3
    · rw [asN_e]; exact x4
    · rw [asN_e, (isP_o k1 rfl (f := 3) (a := M.2.2 415 (M.2.2 302 m 0) 0) (i := k) (fun z => by
        rcases z with z | z | z
        · exact z o2
        · exact h7 z
        · exact h9 z)).1]
      exact x5 k hk
  have hne1 : (asN M.2.2 m cr e np M).2.2 415 ((asN M.2.2 m cr e np M).2.2 302 m 0) 0 ≠ (asN M.2.2 m cr e np M).2.2 391 cr 0 := by rw [asN_e]; exact hne
  have b2 := bgT_k b1 (puN_R (c := cr) (ad := adT) (of := ofT) (v := v) N) (puN_ty b1.1 b1.2.2.2.2.1.2 N) (puN_1 (fun z => absurd z.1 (by decide)) N) (puN_313 N)
  have rP : (puN cr adT ofT v N (asN M.2.2 m cr e np M)).2.2 = M.2.2 := (puN_R N).trans (asN_e np)
  have t2 : (puN cr adT ofT v N (asN M.2.2 m cr e np M)).1 416 ((puN cr adT ofT v N (asN M.2.2 m cr e np M)).2.2 302 m 0) 0 = nI N := by
    rw [puN_R, puN_1 (fun z => absurd z.1 (by decide))]
    exact t1.1
  have A := be_A b np 0 (N + 1 + (np + 1 + j1)) (by omega)
  have P := be_P b1 t1 hne1 N 0 (np + 1 + j1) (by omega)
  have S := be_S (N := N) b2 t2 np 0 j1 (by omega)
  rw [rP] at S
  show FX92_begin_0 fN (FX92_begin_L fN fN).1 (FX92_begin_L fN fN).2.1 (FX92_begin_L fN fN).2.2 m M = _
  rw [(gX92_begin_0 _ _ _ m M b.1).1]
  show (FX92_begin_L fN fN).1 m (nI 0) M = _
  have e3 : (FX92_begin_L fN fN).1 m (nI 0) M = some (nI N, fm_sI (ssN M.2.2 m np (puN cr adT ofT v N (asN M.2.2 m cr e np M))) 315 m 0 (Int32.ofInt (-1))) := by
    have A' : (FX92_begin_L fN (np + 1 + (N + 1 + (np + 1 + j1)))).1 m (nI 0) M = _ := A
    rw [← hj1] at A'
    rw [A']
    have P' : (FX92_begin_L fN (N + 1 + (np + 1 + j1))).2.1 m (nI 0) (asN M.2.2 m cr e np M) = _ := P
    rw [P']
    exact S
  rw [e3, pu_as OR rfl np O, ss_as OR (puN_R N) np O]
end Bl
