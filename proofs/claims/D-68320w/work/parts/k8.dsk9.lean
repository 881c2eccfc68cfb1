/-! disks: the bytes of a request one behind the other -/
set_option maxRecDepth 100000
def nxtS : List Seg → Nat → Option (Int64 × List Seg × Nat)
  | [], _ => none
  | (a, l) :: t, p => if p = ul l then nxtS t 0 else some (a + lN p, (a, l) :: t, p + 1)
def totS : List Seg → Nat
  | [] => 0
  | x :: t => ul x.2 + totS t
def hdL : List Seg → Nat
  | [] => 0
  | x :: _ => ul x.2
/-- the segments are there, short -/
def okS (L : List Seg) : Prop := L.length ≤ 16 ∧ ∀ x, x ∈ L → ul x.2 < 2 ^ 32 ∧ (x.2 = 0 ∨ inR x.1 (ul x.2))
theorem okS_t {x : Seg} {t : List Seg} (h : okS (x :: t)) : okS t := ⟨by have := h.1; rw [List.length_cons] at this; omega, fun y hy => h.2 y (List.mem_cons.mpr (Or.inr hy))⟩
theorem totS_a (L X : List Seg) : totS (L ++ X) = totS L + totS X := by
  induction L with
  | nil => exact (Nat.zero_add _).symm
  | cons x t ih =>
    show ul x.2 + totS (t ++ X) = ul x.2 + totS t + totS X
    rw [ih]
    omega
theorem totS_s (L : List Seg) (c : Nat) : L.foldl (fun a x => a + x.2) (lN c) = lN (c + totS L) := by
  induction L generalizing c with
  | nil => rfl
  | cons x t ih =>
    show t.foldl (fun a x => a + x.2) (lN c + x.2) = lN (c + (ul x.2 + totS t))
    have e : lN c + x.2 = lN (c + ul x.2) := ul_inj (by rw [ul_add, ul_lN, ul_lN]; omega)
    rw [e, ih, Nat.add_assoc]
theorem smL_t (L : List Seg) : smL L = lN (totS L) := by
  have h := totS_s L 0
  rw [Nat.zero_add] at h
  exact h
theorem totS_lt {L : List Seg} (h : okS L) : totS L ≤ L.length * 4294967296 := by
  induction L with
  | nil => exact Nat.zero_le _
  | cons x t ih =>
    have h1 := (h.2 x (List.mem_cons.mpr (Or.inl rfl))).1
    have h2 := ih (okS_t h)
    have p32 : (2 : Nat) ^ 32 = 4294967296 := by decide
    show ul x.2 + totS t ≤ (t.length + 1) * 4294967296
    omega
/-- there is a next byte: its address is there, one less is left -/
theorem nxt_ok : ∀ (L : List Seg) (p : Nat), okS L → p ≤ hdL L → p < totS L → ∃ a L' p', nxtS L p = some (a, L', p') ∧ okS L' ∧ p' ≤ hdL L' ∧ totS L' - p' = totS L - p - 1 ∧ p' ≤ totS L' ∧ inR a 1 ∧ ∀ X, nxtS (L ++ X) p = some (a, L' ++ X, p') := by
  intro L
  induction L with
  | nil => intro p _ _ h; exact absurd h (Nat.not_lt_zero p)
  | cons x t ih =>
    intro p hok hp ht
    obtain ⟨a, l⟩ := x
    have hp' : p ≤ ul l := hp
    have ht' : p < ul l + totS t := ht
    by_cases q : p = ul l
    · obtain ⟨a', L', p', h1, h2, h3, h4, h5, h6, h7⟩ := ih 0 (okS_t hok) (Nat.zero_le _) (by omega)
      refine ⟨a', L', p', ?_, h2, h3, ?_, h5, h6, fun X => ?_⟩
      · show (if p = ul l then nxtS t 0 else _) = _
        rw [if_pos q]
        exact h1
      · show totS L' - p' = ul l + totS t - p - 1
        omega
      · show (if p = ul l then nxtS (t ++ X) 0 else _) = _
        rw [if_pos q]
        exact h7 X
    · obtain ⟨w1, w2⟩ := hok.2 (a, l) (List.mem_cons.mpr (Or.inl rfl))
      have w1 : ul l < 2 ^ 32 := w1
      have p32 : (2 : Nat) ^ 32 = 4294967296 := by decide
      have w3 : inR a (ul l) := by
        rcases w2 with w2 | w2
        · exact absurd (show ul l = 0 by rw [show l = 0 from w2]; rfl) (by omega)
        · exact w2
      refine ⟨a + lN p, (a, l) :: t, p + 1, ?_, hok, ?_, ?_, ?_, ?_, fun X => ?_⟩
      · show (if p = ul l then nxtS t 0 else _) = _
        rw [if_neg q]
      · show p + 1 ≤ ul l
        omega
      · show ul l + totS t - (p + 1) = ul l + totS t - p - 1
        omega
      · show p + 1 ≤ ul l + totS t
        omega
      · unfold inR at *
        rw [ul_add, l_big (by omega)]
        omega
      · show (if p = ul l then nxtS (t ++ X) 0 else _) = _
        rw [if_neg q]
        rfl
/-- where the component stands in a stretch -/
def StrP (s : Nat) (M : FM) (L : List Seg) (p : Nat) : Prop := ∃ b, b + L.length ≤ 16 ∧ M.1 89 s 0 = nI b ∧ M.2.1 90 s 0 = lN p ∧ ∀ j, j < L.length → M.2.1 3 (M.2.2 85 s 0) (b + j) = (L.getD j (0, 0)).1 ∧ M.2.1 3 (M.2.2 86 s 0) (b + j) = (L.getD j (0, 0)).2
theorem strP_v {s : Nat} {M : FM} {L : List Seg} (hL : L.length ≤ 16) (V : StrV s M L) : StrP s M L 0 := ⟨0, by omega, V.2.2.1, V.2.2.2.1, fun j hj => by rw [Nat.zero_add]; exact V.2.2.2.2 j hj⟩
def PNx (s : Nat) (f b : Nat) : Prop := b = s ∧ 89 ≤ f ∧ f ≤ 90
theorem X22_next {s : Nat} : ∀ (L : List Seg) (p : Nat) (M : FM) (J : Nat) {a : Int64} {L' : List Seg} {p' : Nat}, Ty M → fm_is M 30 30 s = true → okS L → p ≤ 4294967296 → StrP s M L p → nxtS L p = some (a, L', p') → L.length < J →
    ∃ N, FX22_next_L0 fN J s M = some (a, N) ∧ Frm (PNx s) M N ∧ Ty N ∧ StrP s N L' p' := by
  intro L
  induction L with
  | nil => intro p M J a L' p' _ _ _ _ _ h; cases h
  | cons x t ih =>
    intro p M J a L' p' T n hok hp4 V h hJ
    obtain ⟨J, rfl⟩ : ∃ y, J = y + 1 := ⟨J - 1, by omega⟩
    obtain ⟨b, v1, v2, v3, v4⟩ := V
    rw [List.length_cons] at v1 hJ
    obtain ⟨x0, x1⟩ := v4 0 (by rw [List.length_cons]; omega)
    have x0 : M.2.1 3 (M.2.2 85 s 0) b = x.1 := x0
    have x1 : M.2.1 3 (M.2.2 86 s 0) b = x.2 := x1
    have ec : (nI b).toNatClampNeg = b := o_cl (by omega)
    have i1 : fm_in M (M.2.2 86 s 0) (nI b) = true := in_nI (N := 16) (tL_86 T.1 n) (by omega) (by decide)
    have i2 : fm_in M (M.2.2 85 s 0) (nI b) = true := in_nI (N := 16) (tL_85 T.1 n) (by omega) (by decide)
    have c1 : lg_cmp (lN p) x.2 = 0 ↔ p = ul x.2 := by
      rw [cl_eq, l_big (by omega)]
    have H : HX22_next_0 s M := by
      unfold HX22_next_0
      dsimp only
      rw [v2]
      exact ⟨i1, fun _ => trivial, fun _ => ⟨i2, trivial⟩⟩
    have G : GX22_next_0 s M = fi (p = ul x.2) (.inl (s, fm_sL (fm_sI M 89 s 0 (nI (b + 1))) 90 s 0 (Int64.ofInt 0))) (.inr (x.1 + lN p, fm_sL M 90 s 0 (lN (p + 1)))) := by
      unfold GX22_next_0
      dsimp only
      rw [v2, ec, v3, x1, propext c1, x0, up_1 (by omega), show lN p + Int64.ofInt 1 = lN (p + 1) from l_a (k := p) (n := 1) (by omega)]
    have hx : (if p = ul x.2 then nxtS t 0 else some (x.1 + lN p, x :: t, p + 1)) = some (a, L', p') := h
    show ∃ N, FX22_next_0 fN (FX22_next_L0 fN J) s M = some (a, N) ∧ _
    rw [(gX22_next_0 (FX22_next_L0 fN J) s M T n H).1, G]
    by_cases q : p = ul x.2
    · rw [if_pos q] at hx
      rw [fi_pos q]
      have f1 : Frm (PNx s) M (fm_sL (fm_sI M 89 s 0 (nI (b + 1))) 90 s 0 (Int64.ofInt 0)) := frm_L (frm_I frm_r ⟨rfl, by decide, by decide⟩) ⟨rfl, by decide, by decide⟩
      have t1 : Ty (fm_sL (fm_sI M 89 s 0 (nI (b + 1))) 90 s 0 (Int64.ofInt 0)) := ⟨T.1, tyb_sI rfl T.2⟩
      have V1 : StrP s (fm_sL (fm_sI M 89 s 0 (nI (b + 1))) 90 s 0 (Int64.ofInt 0)) t 0 := by
        refine ⟨b + 1, by omega, ?_, if_pos ⟨rfl, rfl, rfl⟩, fun j hj => ?_⟩
        · show (fm_sI M 89 s 0 (nI (b + 1))).1 89 s 0 = _
          exact if_pos ⟨rfl, rfl, rfl⟩
        · rw [oL (fun q => absurd q.1 (by decide)), oL (fun q => absurd q.1 (by decide))]
          have := v4 (j + 1) (by rw [List.length_cons]; omega)
          rw [show b + 1 + j = b + (j + 1) by omega]
          exact this
      generalize fm_sL (fm_sI M 89 s 0 (nI (b + 1))) 90 s 0 (Int64.ofInt 0) = M1 at *
      obtain ⟨N, n1, n2, n3, n4⟩ := ih 0 M1 J t1 (frm_is f1 n) (okS_t hok) (Nat.zero_le _) V1 hx (by omega)
      exact ⟨N, n1, frm_t f1 n2, n3, n4⟩
    · rw [if_neg q] at hx
      rw [fi_neg q]
      cases hx
      refine ⟨_, rfl, frm_L frm_r ⟨rfl, by decide, by decide⟩, ⟨T.1, T.2⟩, b, by rw [List.length_cons]; omega, v2, if_pos ⟨rfl, rfl, rfl⟩, fun j hj => ?_⟩
      rw [oL (fun q => absurd q.1 (by decide)), oL (fun q => absurd q.1 (by decide))]
      exact v4 j hj
theorem X22_nextH {s : Nat} {L L' : List Seg} {p p' : Nat} {M : FM} {a : Int64} (T : Ty M) (n : fm_is M 30 30 s = true) (hok : okS L) (hp : p ≤ 4294967296) (V : StrP s M L p) (h : nxtS L p = some (a, L', p')) :
    HX22_next s M ∧ ∃ N, GX22_next s M = (a, N) ∧ Frm (PNx s) M N ∧ Ty N ∧ StrP s N L' p' := by
  obtain ⟨N, n1, n2, n3, n4⟩ := X22_next L p M fN T n hok hp V h (by have := hok.1; unfold fN; omega)
  obtain ⟨o1, o2⟩ := op_of (d := ((0 : Int64), M)) n1 (P := OkR M) ⟨n3, frm_ext n2⟩
  exact ⟨o1, N, o2, n2, n3, n4⟩
/-- where the twin stands in the blocks -/
def TwP (b : Nat) (M : FM) (L : List Seg) (p : Nat) : Prop := ∃ i, i + L.length ≤ 16 ∧ M.1 343 b 0 = nI i ∧ M.2.1 344 b 0 = lN p ∧ ∀ j, j < L.length → M.2.1 3 (M.2.2 340 b 0) (i + j) = (L.getD j (0, 0)).1 ∧ M.2.1 3 (M.2.2 341 b 0) (i + j) = (L.getD j (0, 0)).2
def PTx (b : Nat) (f x : Nat) : Prop := x = b ∧ 343 ≤ f ∧ f ≤ 344
theorem X95_next {b : Nat} : ∀ (L : List Seg) (p : Nat) (M : FM) (J : Nat) {a : Int64} {L' : List Seg} {p' : Nat}, Ty M → fm_is M 93 93 b = true → okS L → p ≤ 4294967296 → TwP b M L p → nxtS L p = some (a, L', p') → L.length < J →
    ∃ N, FX95_nextByte_L0 fN J b M = some (a, N) ∧ Frm (PTx b) M N ∧ Ty N ∧ TwP b N L' p' := by
  intro L
  induction L with
  | nil => intro p M J a L' p' _ _ _ _ _ h; cases h
  | cons x t ih =>
    intro p M J a L' p' T n hok hp4 V h hJ
    obtain ⟨J, rfl⟩ : ∃ y, J = y + 1 := ⟨J - 1, by omega⟩
    obtain ⟨i, v1, v2, v3, v4⟩ := V
    rw [List.length_cons] at v1 hJ
    obtain ⟨x0, x1⟩ := v4 0 (by rw [List.length_cons]; omega)
    have x0 : M.2.1 3 (M.2.2 340 b 0) i = x.1 := x0
    have x1 : M.2.1 3 (M.2.2 341 b 0) i = x.2 := x1
    have ec : (nI i).toNatClampNeg = i := o_cl (by omega)
    have i1 : fm_in M (M.2.2 341 b 0) (nI i) = true := in_nI (N := 16) (tL_341 T.1 n) (by omega) (by decide)
    have i2 : fm_in M (M.2.2 340 b 0) (nI i) = true := in_nI (N := 16) (tL_340 T.1 n) (by omega) (by decide)
    have c1 : lg_cmp (lN p) x.2 = 0 ↔ p = ul x.2 := by
      rw [cl_eq, l_big (by omega)]
    have e5 : lN p + Int64.ofInt 1 = lN (p + 1) := l_a (k := p) (n := 1) (by omega)
    have k5 : (fm_sL M 344 b 0 (lN (p + 1))).1 343 b 0 = nI i := v2
    have k5' : (fm_sL M 344 b 0 (lN (p + 1))).2.2 340 b 0 = M.2.2 340 b 0 := rfl
    have k5x : (fm_sL M 344 b 0 (lN (p + 1))).2.1 3 (M.2.2 340 b 0) i = x.1 := (oL (fun q => absurd q.1 (by decide))).trans x0
    have k5y : (fm_sL M 344 b 0 (lN (p + 1))).2.1 344 b 0 = lN (p + 1) := if_pos ⟨rfl, rfl, rfl⟩
    have H : HX95_nextByte_0 b M := by
      unfold HX95_nextByte_0
      dsimp only
      rw [v2, v3, e5, k5, k5']
      exact ⟨i1, fun _ => trivial, fun _ => ⟨i2, trivial⟩⟩
    have G : GX95_nextByte_0 b M = fi (p = ul x.2) (.inl (b, fm_sL (fm_sI M 343 b 0 (nI (i + 1))) 344 b 0 (Int64.ofInt 0))) (.inr (x.1 + lN p, fm_sL M 344 b 0 (lN (p + 1)))) := by
      unfold GX95_nextByte_0
      dsimp only
      rw [v2, ec, v3, x1, propext c1, up_1 (by omega), e5, k5, k5', ec, k5x, k5y]
      have e6 : x.1 + lN (p + 1) - Int64.ofInt 1 = x.1 + lN p := by
        rw [← e5, ← Int64.add_assoc]
        exact Int64.add_sub_cancel _ _
      rw [e6]
    have hx : (if p = ul x.2 then nxtS t 0 else some (x.1 + lN p, x :: t, p + 1)) = some (a, L', p') := h
    show ∃ N, FX95_nextByte_0 fN (FX95_nextByte_L0 fN J) b M = some (a, N) ∧ _
    rw [(gX95_nextByte_0 (FX95_nextByte_L0 fN J) b M T n H).1, G]
    by_cases q : p = ul x.2
    · rw [if_pos q] at hx
      rw [fi_pos q]
      have f1 : Frm (PTx b) M (fm_sL (fm_sI M 343 b 0 (nI (i + 1))) 344 b 0 (Int64.ofInt 0)) := frm_L (frm_I frm_r ⟨rfl, by decide, by decide⟩) ⟨rfl, by decide, by decide⟩
      have t1 : Ty (fm_sL (fm_sI M 343 b 0 (nI (i + 1))) 344 b 0 (Int64.ofInt 0)) := ⟨T.1, tyb_sI rfl T.2⟩
      have V1 : TwP b (fm_sL (fm_sI M 343 b 0 (nI (i + 1))) 344 b 0 (Int64.ofInt 0)) t 0 := by
        refine ⟨i + 1, by omega, ?_, if_pos ⟨rfl, rfl, rfl⟩, fun j hj => ?_⟩
        · show (fm_sI M 343 b 0 (nI (i + 1))).1 343 b 0 = _
          exact if_pos ⟨rfl, rfl, rfl⟩
        · rw [oL (fun q => absurd q.1 (by decide)), oL (fun q => absurd q.1 (by decide))]
          have := v4 (j + 1) (by rw [List.length_cons]; omega)
          rw [show i + 1 + j = i + (j + 1) by omega]
          exact this
      generalize fm_sL (fm_sI M 343 b 0 (nI (i + 1))) 344 b 0 (Int64.ofInt 0) = M1 at *
      obtain ⟨N, n1, n2, n3, n4⟩ := ih 0 M1 J t1 (frm_is f1 n) (okS_t hok) (Nat.zero_le _) V1 hx (by omega)
      exact ⟨N, n1, frm_t f1 n2, n3, n4⟩
    · rw [if_neg q] at hx
      rw [fi_neg q]
      cases hx
      refine ⟨_, rfl, frm_L frm_r ⟨rfl, by decide, by decide⟩, ⟨T.1, T.2⟩, i, by rw [List.length_cons]; omega, v2, if_pos ⟨rfl, rfl, rfl⟩, fun j hj => ?_⟩
      rw [oL (fun q => absurd q.1 (by decide)), oL (fun q => absurd q.1 (by decide))]
      exact v4 j hj
theorem X95_nextH {b : Nat} {L L' : List Seg} {p p' : Nat} {M : FM} {a : Int64} (T : Ty M) (n : fm_is M 93 93 b = true) (hok : okS L) (hp : p ≤ 4294967296) (V : TwP b M L p) (h : nxtS L p = some (a, L', p')) :
    HX95_nextByte b M ∧ ∃ N, GX95_nextByte b M = (a, N) ∧ Frm (PTx b) M N ∧ Ty N ∧ TwP b N L' p' := by
  obtain ⟨N, n1, n2, n3, n4⟩ := X95_next L p M fN T n hok hp V h (by have := hok.1; unfold fN; omega)
  obtain ⟨o1, o2⟩ := op_of (d := ((0 : Int64), M)) n1 (P := OkR M) ⟨n3, frm_ext n2⟩
  exact ⟨o1, N, o2, n2, n3, n4⟩
