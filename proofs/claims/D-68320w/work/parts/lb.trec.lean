/-! trees: the component's Describer: rows, properties, nodes -/
set_option maxRecDepth 100000
theorem txt_f {P : Nat → Nat → Prop} {u : Nat} {cs : List Nat} {M N : FM} (h : Frm P M N) (h1 : ∀ b, M.2.2 0 b 0 = 7 → ¬ P 16 b) (h2 : ∀ b, M.2.2 0 b 0 = 905 → ¬ P 3 b) (T : Ty M) (x : Txt u cs M) : Txt u cs N := by
  obtain ⟨x1, x2, x3, x4, x5, x6, x7⟩ := x
  have i15 := tN_15 T.1 x1
  refine ⟨frm_is h x1, (h.2 16 u 0 (h1 _ (tg_e x1))).1.trans x2, by rw [h.1]; exact x3, x4, x5, fun k hk => ?_, ?_⟩
  · rw [h.1, (h.2 3 _ k (h2 _ (tg_e i15))).1]
    exact x6 k hk
  · unfold Sf at x7 ⊢
    rw [h.1]
    exact x7
theorem alT_ro0 {r : Nat} {M N : FM} (h : Frm (PRo r M) M N) (T : Ty M) (n : fm_is M 86 86 r = true) (A : AlT M) : AlT N := fun u h1 h2 => txt_f h (fun b _ z => by
    rcases z with z | z <;> exact absurd z.1 (by decide)) (fun b hb z => by
    rcases z with z | z
    · exact absurd z.1 (by decide)
    · have := tg_e (tN_261 T.1 n)
      rw [z.2, this] at hb
      exact absurd hb (by decide)) T (A u h1 h2)
theorem alT_tt0 {t : Nat} {M N : FM} (h : Frm (PTt t M) M N) (T : Ty M) (n : fm_is M 87 87 t = true) (A : AlT M) : AlT N := fun u h1 h2 => txt_f h (fun b _ z => by
    rcases z with z | z | z | z | z | z <;> omega) (fun b hb z => by
    rcases z with z | z | z | z | z | z
    · omega
    · omega
    · omega
    · omega
    · omega
    · have := tg_e (tN_261 T.1 (tN_263 T.1 n))
      rw [z.2, this] at hb
      exact absurd hb (by decide)) T (A u h1 h2)
/-- the windows' places and sizes -/
def winF (w : Nat) : Nat × Nat := if w = 37 then (1048576, 4096) else if w = 38 then (33554432, 65536) else if w = 39 then (201326592, 4194304) else if w = 40 then (268435456, 256) else (268439552, 4096)
def WinC (M : FM) : Prop := ∀ w, 37 ≤ w → w ≤ 41 → M.2.1 13 w 0 = lN (winF w).1 ∧ M.2.1 14 w 0 = lN (winF w).2
def AlW (M : FM) : Prop := AlT M ∧ WinC M
theorem winC_f {P : Nat → Nat → Prop} {M N : FM} (h : Frm P M N) (h1 : ∀ b, ¬ P 13 b ∧ ¬ P 14 b) (w : WinC M) : WinC N := fun x a b => ⟨(h.2 13 x 0 (h1 x).1).2.trans (w x a b).1, (h.2 14 x 0 (h1 x).2).2.trans (w x a b).2⟩
theorem alT_ro {r : Nat} {M N : FM} (h : Frm (PRo r M) M N) (T : Ty M) (n : fm_is M 86 86 r = true) (A : AlW M) : AlW N := ⟨alT_ro0 h T n A.1, winC_f h (fun b => ⟨fun z => by
  rcases z with z | z <;> exact absurd z.1 (by decide), fun z => by
  rcases z with z | z <;> exact absurd z.1 (by decide)⟩) A.2⟩
theorem alT_tt {t : Nat} {M N : FM} (h : Frm (PTt t M) M N) (T : Ty M) (n : fm_is M 87 87 t = true) (A : AlW M) : AlW N := ⟨alT_tt0 h T n A.1, winC_f h (fun b => ⟨fun z => by
  rcases z with z | z | z | z | z | z <;> omega, fun z => by
  rcases z with z | z | z | z | z | z <;> omega⟩) A.2⟩
/-- how the Describer is laid -/
def DR (R : Rf) (a b : Nat) : Prop := a ≠ b ∧ R 261 a 0 ≠ R 261 b 0
def StD (d : Nat) (R : Rf) : Prop := fr R 21 21 d = true ∧ StT (R 56 d 0) R ∧ (DR R (R 55 d 0) (R 263 (R 56 d 0) 0) ∧ DR R (R 256 (R 57 d 0) 0) (R 263 (R 56 d 0) 0) ∧ DR R (R 257 (R 57 d 0) 0) (R 263 (R 56 d 0) 0) ∧ DR R (R 256 (R 57 d 0) 0) (R 257 (R 57 d 0) 0)) ∧
  R 1 (R 261 (R 55 d 0) 0) 0 = 512 ∧ R 1 (R 261 (R 263 (R 56 d 0) 0) 0) 0 = 16384 ∧ R 1 (R 261 (R 256 (R 57 d 0) 0) 0) 0 = 65536 ∧ R 1 (R 261 (R 257 (R 57 d 0) 0) 0) 0 = 16896
def ChK (T : List Nd) : List Nat → Prop
  | [] => True
  | a :: r => a < T.length ∧ (match r with | [] => True | b :: _ => (T.getD a nd0).2.1 = b) ∧ ChK T r
def VDb (d n : Nat) (M : FM) (s : DSt) : Prop := (Ty M ∧ AlW M ∧ StD d M.2.2) ∧ ∃ W, VTtr (M.2.2 56 d 0) M W s ∧ W.length ≤ 128 * n ∧ s.1.length ≤ n + 1 ∧ s.2.1.length ≤ n ∧ ChK s.1 s.2.2 ∧ s.2.2 ≠ []
def VDp (d n : Nat) (M : FM) (s : DSt) (S : List Nat) : Prop := VDb d n M s ∧ RwB (M.2.2 55 d 0) 512 M S
theorem chK_e {T T' : List Nd} (hl : T.length ≤ T'.length) (h : ∀ k, k < T.length → (T'.getD k nd0).2.1 = (T.getD k nd0).2.1) : ∀ {K : List Nat}, ChK T K → ChK T' K
  | [], _ => trivial
  | [a], k => ⟨by have := k.1; omega, trivial, trivial⟩
  | a :: b :: r, k => ⟨by have := k.1; omega, (h a k.1).trans k.2.1, chK_e hl h k.2.2⟩
theorem chK_h {T : List Nd} {K : List Nat} (h : ChK T K) (n : K ≠ []) : hdK K < T.length := by
  cases K with
  | nil => exact absurd rfl n
  | cons a r => exact h.1
section Dd
variable {d n u v : Nat} {M N : FM} {S X V : List Nat} {s : DSt}
/-- something is written into the piece -/
theorem v_row (V : VDb d n M s) (F : Frm (PRo (M.2.2 55 d 0) M) M N) (TN : Ty N) (Q : RwB (M.2.2 55 d 0) 512 N S) : VDp d n N s S := by
  obtain ⟨⟨T, A, D⟩, W, v, b1, b2, b3, b4, b5⟩ := V
  have r := F.1
  have nq := tN_55 T.1 D.1
  have D' : StD d N.2.2 := by rw [r]; exact D
  have ko : ∀ f b i, f ≠ 262 → f ≠ 3 → N.1 f b i = M.1 f b i := fun f b i h1 h2 => (F.2 f b i (fun z => by
    rcases z with z | z
    · exact h1 z.1
    · exact h2 z.1)).1
  refine ⟨⟨⟨TN, alT_ro F T nq A, D'⟩, W, ?_, b1, b2, b3, b4, b5⟩, by rw [r]; exact Q⟩
  obtain ⟨v1, ⟨v2, v3, v4⟩, v5, v6⟩ := v
  rw [r]
  refine ⟨?_, ⟨(ko 266 _ 0 (by decide) (by decide)).trans v2, (ko 267 _ 0 (by decide) (by decide)).trans v3, (ko 268 _ 0 (by decide) (by decide)).trans v4⟩, fun k hk => ndV_k r (fun f h => ko f _ 0 (by omega) (by omega)) (fun f h => ko f _ 0 (by omega) (by omega)) (v5 k hk), fun k hk => ppV_k r (fun f h => ko f _ 0 (by omega) (by omega)) (fun f h => ko f _ 0 (by omega) (by omega)) (v6 k hk)⟩
  rw [r]
  exact rwB_o v1 F (fun z => D.2.2.1.1.1 z.symm) (fun z => D.2.2.1.1.2 z.symm)
/-- the piece is made empty -/
theorem v_zero (V : VDb d n M s) : VDp d n (fm_sI M 262 (M.2.2 55 d 0) 0 (Int32.ofInt 0)) s [] := by
  obtain ⟨⟨T, A, D⟩, V2⟩ := id V
  refine v_row V (frm_I frm_r (Or.inl ⟨rfl, rfl⟩)) ⟨T.1, tyb_sI rfl T.2⟩ ⟨tN_55 T.1 D.1, D.2.2.2.1, if_pos ⟨rfl, rfl, rfl⟩, fun k hk => absurd hk (Nat.not_lt_zero _), fun x hx => by cases hx⟩
theorem v_add (V : VDp d n M s S) (hl : S.length < 512) (x : Int32) : HX3_add (M.2.2 55 d 0) x M ∧ VDp d n (GX3_add (M.2.2 55 d 0) x M) s (S ++ [ui x % 256]) := by
  obtain ⟨p1, N, p2, p3, p4⟩ := X3_add V.2 hl (by decide) x
  rw [p2]
  exact ⟨p1, v_row V.1 p3 (pro_y p3 V.2.1 V.1.1.1) p4⟩
theorem v_num (V : VDp d n M s S) (hl : S.length + 4 ≤ 512) (hv : v < 4294967296) : HX3_addNumber (M.2.2 55 d 0) (nI v) M ∧ VDp d n (GX3_addNumber (M.2.2 55 d 0) (nI v) M) s (S ++ be4 v) := by
  obtain ⟨p1, N, p2, p3, p4, p5⟩ := X3_addNumber V.1.1.1 hv (by decide) V.2 hl
  rw [p2]
  exact ⟨p1, v_row V.1 p3 p4 p5⟩
theorem txt_7 {cs : List Nat} (x : Txt u cs M) {k : Nat} (hk : k < cs.length) : ui (nI (cs.getD k 0)) % 256 = cs.getD k 0 := by
  have := x.2.2.2.2.1 _ (gD_m hk)
  rw [ui_nI]
  omega
theorem v_text_L (h1 : 100 ≤ u) (h2 : u ≤ 150) : ∀ m j k M, k + m = (tx u).length → m < j → VDp d n M s (S ++ (tx u).take k) → S.length + 31 ≤ 512 → ∃ N, FX4_text_L2 fN j d u (nI k) M = some N ∧ VDp d n N s (S ++ tx u) ∧ Ext M N := by
  intro m
  induction m with
  | zero =>
    intro j k M hk hj V hl
    obtain ⟨j, rfl⟩ : ∃ y, j = y + 1 := ⟨j - 1, by omega⟩
    obtain ⟨T, A, D⟩ := V.1.1
    have x := A.1 u h1 h2
    have hk' : k = (tx u).length := by omega
    rw [hk', List.take_length] at V
    have c1 : nI (tx u).length ≤ nI k := (n_le (by have := tx_31 u; omega) (by have := tx_31 u; omega)).mpr (by omega)
    refine ⟨M, ?_, V, ext_r M⟩
    show FX4_text_2 fN (FX4_text_L2 fN j) d u (nI k) M = _
    have H : HX4_text_2 d u (nI k) M := by
      unfold HX4_text_2
      dsimp only
      rw [J1_length x]
      exact ⟨fun _ => trivial, fun z => absurd c1 z⟩
    rw [(gX4_text_2 (FX4_text_L2 fN j) d u (nI k) M T x.1 D.1 H).1]
    unfold GX4_text_2
    dsimp only
    rw [J1_length x, fi_pos c1]
    rfl
  | succ m ih =>
    intro j k M hk hj V hl
    obtain ⟨j, rfl⟩ : ∃ y, j = y + 1 := ⟨j - 1, by omega⟩
    obtain ⟨T, A, D⟩ := V.1.1
    have x := A.1 u h1 h2
    have l31 := tx_31 u
    have hk' : k < (tx u).length := by omega
    have c1 : ¬ nI (tx u).length ≤ nI k := fun z => by
      have := (n_le (by omega) (by omega)).mp z
      omega
    obtain ⟨c2, c3⟩ := J1_charAt x hk'
    have lk : ((tx u).take k).length = k := by rw [List.length_take]; omega
    obtain ⟨p1, p2⟩ := v_add V (by rw [List.length_append, lk]; omega) (nI ((tx u).getD k 0))
    rw [txt_7 x hk', List.append_assoc, ← take_s hk'] at p2
    obtain ⟨N, q1, q2, q3⟩ := ih j (k + 1) _ (by omega) (by omega) p2 hl
    have H : HX4_text_2 d u (nI k) M := by
      unfold HX4_text_2
      dsimp only
      rw [J1_length x]
      refine ⟨fun z => absurd z c1, fun _ => ⟨c2, ?_⟩⟩
      dsimp only
      rw [c3]
      exact ⟨p1, trivial⟩
    have e1 : Ext M (GX3_add (M.2.2 55 d 0) (nI ((tx u).getD k 0)) M) := (gX3_add (M.2.2 55 d 0) (nI ((tx u).getD k 0)) M T (tN_55 T.1 D.1) p1).2.2
    refine ⟨N, ?_, q2, ext_tr e1 q3⟩
    show FX4_text_2 fN (FX4_text_L2 fN j) d u (nI k) M = _
    rw [(gX4_text_2 (FX4_text_L2 fN j) d u (nI k) M T x.1 D.1 H).1]
    unfold GX4_text_2
    dsimp only
    rw [J1_length x, fi_neg c1]
    dsimp only
    rw [c3]
    dsimp only
    rw [up_g]
    exact q1
theorem v_text (h1 : 100 ≤ u) (h2 : u ≤ 150) (V : VDp d n M s S) (hl : S.length + 31 ≤ 512) : HX4_text d u M ∧ VDp d n (GX4_text d u M) s (S ++ tx u) := by
  obtain ⟨N, q1, q2, q3⟩ := v_text_L (S := S) h1 h2 (tx u).length fN 0 M (by omega) (by have := tx_31 u; unfold fN; omega) (by rw [List.take_zero, List.append_nil]; exact V) hl
  have A : FX4_text fN d u M = some N := by
    show FX4_text_0 fN (FX4_text_L2 fN fN) d u M = _
    rw [(gX4_text_0 (FX4_text_L2 fN fN) d u M V.1.1.1).1]
    exact q1
  obtain ⟨a1, a2⟩ := op_of (d := M) A (P := OkV M) ⟨q2.1.1.1, q3⟩
  have a2 : GX4_text d u M = N := a2
  rw [a2]
  exact ⟨a1, q2⟩
theorem v_begin (h1 : 100 ≤ u) (h2 : u ≤ 150) (V : VDb d n M s) : HX4_begin d u M ∧ VDp d n (GX4_begin d u M) s (tx u) := by
  obtain ⟨p1, p2⟩ := v_text h1 h2 (v_zero V) (by decide)
  exact ⟨⟨p1, trivial⟩, p2⟩
theorem v_finish (h1 : 100 ≤ u) (h2 : u ≤ 150) (V : VDp d n M s (tx u ++ X)) (hX : X.length ≤ 90) (hn : n < 120) : HX4_finish d u M ∧ VDb d (n + 1) (GX4_finish d u M) (dProp (tx u) X s) := by
  obtain ⟨⟨⟨T, A, D⟩, W, v, b1, b2, b3, b4, b5⟩, Q⟩ := V
  have x := A.1 u h1 h2
  have l31 := tx_31 u
  have lt := chK_h b4 b5
  have ls : (tx u ++ X).length = (tx u).length + X.length := List.length_append
  obtain ⟨p1, N1, p2, p3, p4, p5⟩ := X5_property (c := (tx u).length) T D.2.1 v (by omega) (by omega) lt Q D.2.2.1.1.2 (by omega) (by omega) (by omega)
  rw [List.take_left'] at p5
  · have Q1 := ptt_row p3 Q D.2.2.1.1.1 D.2.2.1.1.2
    have r1 := p3.1
    have D1 : StD d N1.2.2 := by rw [r1]; exact D
    have p5' : VTh (N1.2.2 56 d 0) N1 (W ++ tx u) s (tx u) := by rw [r1]; exact p5
    obtain ⟨o1, N, o2, o3, o4, o5⟩ := X5_value (t := N1.2.2 56 d 0) (q := M.2.2 55 d 0) (c := (tx u).length) p4 D1.2.1 p5' (by omega) (by omega) Q1 (by rw [r1]; exact D.2.2.1.1.2) (by omega) (by omega) (by rw [List.length_append]; omega)
    rw [List.drop_left'] at o5
    · rw [r1] at o1 o2
      have e1 : N1.1 262 (M.2.2 55 d 0) 0 = nI (tx u ++ X).length := Q1.2.2.1
      have e2 : nI (tx u ++ X).length - nI (tx u).length = nI ((tx u ++ X).length - (tx u).length) := ui_inj (by
        rw [ui_sub, ui_nI, ui_nI, ui_nI]
        omega)
      have H : HX4_finish d u M ∧ GX4_finish d u M = N := by
        unfold HX4_finish HX4_finish_0 GX4_finish GX4_finish_0
        dsimp only
        rw [J1_length x]
        dsimp only
        rw [p2]
        dsimp only
        rw [r1, e1, e2]
        exact ⟨⟨p1, o1, trivial⟩, o2⟩
      rw [H.2]
      refine ⟨H.1, ⟨o4, alT_tt (t := N1.2.2 56 d 0) o3 p4 D1.2.1.1 (alT_tt p3 T D.2.1.1 A), by rw [o3.1]; exact D1⟩, W ++ tx u ++ X, by rw [o3.1]; exact o5, ?_, ?_, ?_, ?_, b5⟩
      · rw [List.length_append, List.length_append]
        omega
      · show (mdN _ _).length ≤ _
        rw [mdN_l]
        omega
      · show (s.2.1 ++ [(tx u, X)]).length ≤ _
        rw [List.length_append]
        exact Nat.succ_le_succ b3
      · refine chK_e (Nat.le_of_eq (mdN_l _ _).symm) (fun k hk => ?_) b4
        show ((mdN (hdK s.2.2) s.1).getD k nd0).2.1 = _
        rw [mdN_g _ _ _ hk]
        by_cases e : k = hdK s.2.2
        · rw [if_pos e]
          rfl
        · rw [if_neg e]
    · rfl
  · rfl
theorem v_openS (V : VDp d n M s S) (hS : S.length ≤ 90) (hn : n < 120) : HX5_open (M.2.2 56 d 0) (M.2.2 55 d 0) (Int32.ofInt 0) (M.1 262 (M.2.2 55 d 0) 0) M ∧ VDb d (n + 1) (GX5_open (M.2.2 56 d 0) (M.2.2 55 d 0) (Int32.ofInt 0) (M.1 262 (M.2.2 55 d 0) 0) M).2 (dOpen S s) := by
  obtain ⟨⟨⟨T, A, D⟩, W, v, b1, b2, b3, b4, b5⟩, Q⟩ := V
  have lt := chK_h b4 b5
  obtain ⟨p1, N, p2, p3, p4, p5⟩ := X5_open T D.2.1 v (by omega) (by omega) lt Q D.2.2.1.1.2 (by omega) (by omega)
  rw [Q.2.2.1, p2]
  have gk : ∀ k, k < s.1.length → ((dOpen S s).1.getD k nd0) = s.1.getD k nd0 := fun k hk => by
    show (s.1 ++ _).getD k nd0 = _
    rw [List.getD_eq_getElem?_getD, List.getElem?_append_left hk, ← List.getD_eq_getElem?_getD]
  have ll : (dOpen S s).1.length = s.1.length + 1 := List.length_append
  refine ⟨p1, ⟨p4, alT_tt p3 T D.2.1.1 A, by rw [p3.1]; exact D⟩, W ++ S, by rw [p3.1]; exact p5, ?_, ?_, ?_, ?_, ?_⟩
  · rw [List.length_append]
    omega
  · rw [ll]
    omega
  · exact Nat.le_succ_of_le b3
  · have c2 : ChK (dOpen S s).1 s.2.2 := chK_e (by rw [ll]; omega) (fun k hk => by rw [gk k hk]) b4
    show ChK (dOpen S s).1 (s.1.length :: s.2.2)
    cases h : s.2.2 with
    | nil => exact absurd h b5
    | cons b r =>
      rw [h] at c2
      refine ⟨by rw [ll]; omega, ?_, c2⟩
      show ((s.1 ++ [(S, hdK s.2.2, _)]).getD s.1.length nd0).2.1 = b
      rw [List.getD_eq_getElem?_getD, List.getElem?_concat_length, h]
      rfl
  · show s.1.length :: s.2.2 ≠ []
    exact List.cons_ne_nil _ _
theorem v_open (h1 : 100 ≤ u) (h2 : u ≤ 150) (V : VDb d n M s) (hn : n < 120) : HX4_open d u M ∧ VDb d (n + 1) (GX4_open d u M) (dOpen (tx u) s) := by
  obtain ⟨p1, p2⟩ := v_text h1 h2 (v_zero V) (by decide)
  obtain ⟨q1, q2⟩ := v_openS p2 (by have := tx_31 u; show (tx u).length ≤ 90; omega) hn
  exact ⟨⟨p1, q1, trivial⟩, q2⟩
theorem v_openN (h1 : 100 ≤ u) (h2 : u ≤ 150) (V : VDb d n M s) (hn : n < 120) (hv : v < 8) : HX4_openNumbered d u (nI v) M ∧ VDb d (n + 1) (GX4_openNumbered d u (nI v) M) (dOpen (tx u ++ [48 + v]) s) := by
  obtain ⟨p1, p2⟩ := v_text h1 h2 (v_zero V) (by decide)
  have l31 := tx_31 u
  obtain ⟨o1, o2⟩ := v_add p2 (by show (tx u).length < 512; omega) (Int32.ofInt 48 + nI v)
  have e : ui (Int32.ofInt 48 + nI v) % 256 = 48 + v := by
    rw [show Int32.ofInt 48 = nI 48 from rfl, nI_a, ui_nI]
    omega
  rw [e] at o2
  obtain ⟨q1, q2⟩ := v_openS o2 (by show (tx u ++ [48 + v]).length ≤ 90; rw [len_a]; omega) hn
  exact ⟨⟨p1, o1, q1, trivial⟩, q2⟩
theorem v_close {a b : Nat} {r : List Nat} (V : VDb d n M s) (e : s.2.2 = a :: b :: r) (hn : n < 120) : HX5_close (M.2.2 56 d 0) M ∧ VDb d n (GX5_close (M.2.2 56 d 0) M).2 (dClose s) := by
  obtain ⟨⟨T, A, D⟩, W, v, b1, b2, b3, b4, b5⟩ := V
  have b4' := b4
  rw [e] at b4'
  obtain ⟨p1, N, p2, p3, p4, p5⟩ := X5_close T D.2.1 v (by omega) e b4'.1 b4'.2.1
  rw [p2]
  refine ⟨p1, ⟨p4, alT_tt p3 T D.2.1.1 A, by rw [p3.1]; exact D⟩, W, by rw [p3.1]; exact p5, b1, b2, b3, ?_, ?_⟩
  · show ChK s.1 s.2.2.tail
    rw [e]
    exact b4'.2.2
  · show s.2.2.tail ≠ []
    rw [e]
    exact List.cons_ne_nil _ _
end Dd
