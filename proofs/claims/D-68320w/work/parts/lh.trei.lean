/-! trees: the component's tree of the machine, laid down; it is the twin's -/
set_option maxRecDepth 100000
def s00 : DSt := ([([], 4294967295, 1, 0, 0)], [], [0])
def sBe (s : DSt) : DSt := sNum 140 10000000 (sCel 1 0 (sOpe 116 (dClose (sStr 138 104 (sOpe 108 (sStr 128 107 (sStr 109 144 (sCel 2 2 s))))))))
def sPs : Nat → Nat → DSt → DSt
  | 0, _, s => s
  | m + 1, h, s => sPs m (h + 1) (sPro h s)
def sAf (p : Nat) (s : DSt) : DSt := sDvs p (dClose (sWin 2147483648 4194304 (sStr 117 125 (sOpe 126 (dClose s)))))
def sFin (p : Nat) : DSt := sAf p (sPs p 0 (sBe s00))
/-- the tree is small -/
def okSt (s : DSt) : Bool := Nat.ble s.1.length 128 && Nat.ble s.2.1.length 512 && s.2.1.all okPb && s.1.all (okTb s.2.1.length) && Nat.ble (coN s.1 0) 370 && Nat.ble (fuL s.1 0) 1000
theorem okSt_d {s : DSt} (h : okSt s = true) : s.1.length ≤ 128 ∧ s.2.1.length ≤ 512 ∧ (∀ q, q ∈ s.2.1 → okP q) ∧ (∀ x, x ∈ s.1 → okT s.2.1.length x) ∧ coN s.1 0 ≤ 370 ∧ fuL s.1 0 ≤ 1000 := by
  unfold okSt at h
  simp only [Bool.and_eq_true, List.all_eq_true] at h
  obtain ⟨⟨⟨⟨⟨h1, h2⟩, h3⟩, h4⟩, h5⟩, h6⟩ := h
  exact ⟨Nat.le_of_ble_eq_true h1, Nat.le_of_ble_eq_true h2, fun q hq => okP_b (h3 q hq), fun x hx => okT_b (h4 x hx), Nat.le_of_ble_eq_true h5, Nat.le_of_ble_eq_true h6⟩
theorem p_14 {P : Nat → Prop} {p : Nat} (h1 : 1 ≤ p) (h2 : p ≤ 4) (a : P 1) (b : P 2) (c : P 3) (d : P 4) : P p := by
  have : p = 1 ∨ p = 2 ∨ p = 3 ∨ p = 4 := by omega
  rcases this with rfl | rfl | rfl | rfl <;> assumption
theorem sFin_ok {p : Nat} (h1 : 1 ≤ p) (h2 : p ≤ 4) : okSt (sFin p) = true := p_14 (P := fun p => okSt (sFin p) = true) h1 h2 (by decide +kernel) (by decide +kernel) (by decide +kernel) (by decide +kernel)
theorem doc_e {p : Nat} (h1 : 1 ≤ p) (h2 : p ≤ 4) : layN (sFin p).2.1 (sFin p).1 0 ++ dF9 = docT p := p_14 (P := fun p => layN (sFin p).2.1 (sFin p).1 0 ++ dF9 = docT p) h1 h2 (by decide +kernel) (by decide +kernel) (by decide +kernel) (by decide +kernel)
/-- a head of a multiple of four bytes -/
theorem padL_z {Z S : List Nat} (h : Z.length % 4 = 0) : padL (Z ++ S) = Z ++ padL S := by
  unfold padL
  rw [List.append_assoc, List.length_append, show (Z.length + S.length) % 4 = S.length % 4 by omega]
theorem rd1_z {Z S : List Nat} {L : List (List Nat)} (h : Z.length % 4 = 0) (i : Itm) : rd1 i (Z ++ S, L) = (Z ++ (rd1 i (S, L)).1, (rd1 i (S, L)).2) := by
  unfold rd1
  by_cases h1 : i.1 = 1
  · rw [if_pos h1, if_pos h1]
    dsimp only
    rw [← padL_z h]
    simp only [List.append_assoc]
  · rw [if_neg h1, if_neg h1]
    by_cases h3 : i.1 = 3
    · rw [if_pos h3, if_pos h3]
      dsimp only
      rw [← padL_z h]
      simp only [List.append_assoc]
    · rw [if_neg h3, if_neg h3]
      dsimp only
      rw [List.append_assoc]
theorem rdr_z {Z : List Nat} (h : Z.length % 4 = 0) : ∀ (l : List Itm) (S : List Nat) (L : List (List Nat)), rdr l (Z ++ S, L) = (Z ++ (rdr l (S, L)).1, (rdr l (S, L)).2)
  | [], _, _ => rfl
  | i :: l, S, L => by
    show rdr l (rd1 i (Z ++ S, L)) = (Z ++ (rdr l (rd1 i (S, L))).1, (rdr l (rd1 i (S, L))).2)
    rw [rd1_z h i, rdr_z h l]
/-- four bytes over others, as lists -/
theorem ptN_a {v : Nat} : ∀ (i : Nat) (A B : List Nat) (x y z u : Nat), A.length = i → ptN (A ++ ([x, y, z, u] ++ B)) i v 4 = A ++ (be4 v ++ B) := by
  intro i A B x y z u h
  subst h
  have s0 : ∀ (C : List Nat) (j w : Nat), (A ++ C).set (A.length + j) w = A ++ C.set j w := fun C j w => by
    rw [List.set_append_right _ _ (by omega)]
    congr 2
    omega
  show ((((A ++ ([x, y, z, u] ++ B)).set (A.length + 0) (b8 v 3)).set (A.length + 1) (b8 v 2)).set (A.length + 2) (b8 v 1)).set (A.length + 3) (b8 v 0) = _
  rw [s0, s0, s0, s0]
  rfl
theorem hdP_e {B : List Nat} {a1 st nl : Nat} : hdP (List.replicate 56 0 ++ B) a1 st nl = ((((((((be4 3490578157 ++ be4 (56 + B.length)) ++ be4 56) ++ be4 a1) ++ be4 40) ++ be4 17) ++ be4 16) ++ be4 0) ++ be4 nl) ++ be4 st ++ List.replicate 16 0 ++ B := by
  have hl : (List.replicate 56 0 ++ B).length = 56 + B.length := by rw [List.length_append, List.length_replicate]
  unfold hdP
  rw [hl]
  generalize 56 + B.length = N
  have e0 : List.replicate 56 0 ++ B = [] ++ ([0, 0, 0, 0] ++ (List.replicate 52 0 ++ B)) := rfl
  rw [e0, ptN_a 0 [] _ 0 0 0 0 rfl]
  have e1 : [] ++ (be4 3490578157 ++ (List.replicate 52 0 ++ B)) = be4 3490578157 ++ ([0, 0, 0, 0] ++ (List.replicate 48 0 ++ B)) := rfl
  rw [e1, ptN_a 4 _ _ 0 0 0 0 rfl]
  have e2 : be4 3490578157 ++ (be4 N ++ (List.replicate 48 0 ++ B)) = (be4 3490578157 ++ be4 N) ++ ([0, 0, 0, 0] ++ (List.replicate 44 0 ++ B)) := by rw [List.append_assoc]; rfl
  rw [e2, ptN_a 8 _ _ 0 0 0 0 rfl]
  have e3 : (be4 3490578157 ++ be4 N) ++ (be4 56 ++ (List.replicate 44 0 ++ B)) = ((be4 3490578157 ++ be4 N) ++ be4 56) ++ ([0, 0, 0, 0] ++ (List.replicate 40 0 ++ B)) := by rw [List.append_assoc (be4 3490578157 ++ be4 N)]; rfl
  rw [e3, ptN_a 12 _ _ 0 0 0 0 rfl]
  have e4 : ((be4 3490578157 ++ be4 N) ++ be4 56) ++ (be4 a1 ++ (List.replicate 40 0 ++ B)) = (((be4 3490578157 ++ be4 N) ++ be4 56) ++ be4 a1) ++ ([0, 0, 0, 0] ++ (List.replicate 36 0 ++ B)) := by rw [List.append_assoc ((be4 3490578157 ++ be4 N) ++ be4 56)]; rfl
  rw [e4, ptN_a 16 _ _ 0 0 0 0 rfl]
  have e5 : (((be4 3490578157 ++ be4 N) ++ be4 56) ++ be4 a1) ++ (be4 40 ++ (List.replicate 36 0 ++ B)) = ((((be4 3490578157 ++ be4 N) ++ be4 56) ++ be4 a1) ++ be4 40) ++ ([0, 0, 0, 0] ++ (List.replicate 32 0 ++ B)) := by rw [List.append_assoc (((be4 3490578157 ++ be4 N) ++ be4 56) ++ be4 a1)]; rfl
  rw [e5, ptN_a 20 _ _ 0 0 0 0 rfl]
  have e6 : ((((be4 3490578157 ++ be4 N) ++ be4 56) ++ be4 a1) ++ be4 40) ++ (be4 17 ++ (List.replicate 32 0 ++ B)) = (((((be4 3490578157 ++ be4 N) ++ be4 56) ++ be4 a1) ++ be4 40) ++ be4 17) ++ ([0, 0, 0, 0] ++ (List.replicate 28 0 ++ B)) := by rw [List.append_assoc ((((be4 3490578157 ++ be4 N) ++ be4 56) ++ be4 a1) ++ be4 40)]; rfl
  rw [e6, ptN_a 24 _ _ 0 0 0 0 rfl]
  have e7 : (((((be4 3490578157 ++ be4 N) ++ be4 56) ++ be4 a1) ++ be4 40) ++ be4 17) ++ (be4 16 ++ (List.replicate 28 0 ++ B)) = (((((((be4 3490578157 ++ be4 N) ++ be4 56) ++ be4 a1) ++ be4 40) ++ be4 17) ++ be4 16) ++ be4 0) ++ ([0, 0, 0, 0] ++ (List.replicate 20 0 ++ B)) := by
    simp only [List.append_assoc]
    rfl
  rw [e7, ptN_a 32 _ _ 0 0 0 0 rfl]
  have e8 : (((((((be4 3490578157 ++ be4 N) ++ be4 56) ++ be4 a1) ++ be4 40) ++ be4 17) ++ be4 16) ++ be4 0) ++ (be4 nl ++ (List.replicate 20 0 ++ B)) = ((((((((be4 3490578157 ++ be4 N) ++ be4 56) ++ be4 a1) ++ be4 40) ++ be4 17) ++ be4 16) ++ be4 0) ++ be4 nl) ++ ([0, 0, 0, 0] ++ (List.replicate 16 0 ++ B)) := by
    simp only [List.append_assoc]
    rfl
  rw [e8, ptN_a 36 _ _ 0 0 0 0 rfl]
  simp only [List.append_assoc]
/-- what the machine's tree is, as bytes -/
def treB (p : Nat) : List Nat := joL (rdr (docT p) ([], [])).1 (flN (rdr (docT p) ([], [])).2)
theorem fin_e {p : Nat} (h1 : 1 ≤ p) (h2 : p ≤ 4) : finR (layR (sFin p)) = treB p := by
  have e1 : rdr (docT p) ([], []) = rdr dF9 (rdr (layN (sFin p).2.1 (sFin p).1 0) ([], [])) := by rw [← doc_e h1 h2, rdr_a]
  unfold treB
  rw [e1]
  unfold layR
  have e2 : (List.replicate 56 0, ([] : List (List Nat))) = ((List.replicate 56 0) ++ ([] : List Nat), []) := by rw [List.append_nil]
  rw [e2, rdr_z (by rw [List.length_replicate])]
  generalize rdr (layN (sFin p).2.1 (sFin p).1 0) ([], []) = r
  obtain ⟨S, L⟩ := r
  show finR (List.replicate 56 0 ++ S, L) = joL (S ++ be4 9) (flN L)
  unfold finR
  dsimp only
  rw [List.append_assoc (List.replicate 56 0), List.append_assoc (List.replicate 56 0)]
  rw [hdP_e]
  unfold joL hdT
  have l1 : (List.replicate 56 0 ++ (S ++ be4 9)).length = 56 + (S ++ be4 9).length := by rw [List.length_append, List.length_replicate]
  rw [l1, show 56 + (S ++ be4 9).length - 56 = (S ++ be4 9).length by omega, List.length_append (as := S ++ be4 9), show 56 + ((S ++ be4 9).length + (flN L).length) = 56 + (S ++ be4 9).length + (flN L).length by omega]
  simp only [List.append_assoc]
section Ds
variable {d n p : Nat} {M N : FM} {s : DSt}
theorem v_clear (T : Ty M) (A : AlW M) (D : StD d M.2.2) (n0 : ∃ o, o ≤ 16384 ∧ M.1 254 (M.2.2 248 (ndc (M.2.2 56 d 0) M.2.2 0) 0) 0 = nI o) : HX5_clear (M.2.2 56 d 0) M ∧ VDb d 1 (GX5_clear (M.2.2 56 d 0) M) s00 := by
  obtain ⟨p1, N, p2, p3, p4, p5⟩ := X5_clear T D.2.1 n0 D.2.2.2.2.1
  have e := p3.1
  rw [p2]
  refine ⟨p1, ⟨p4, alT_tt p3 T D.2.1.1 A, by rw [e]; exact D⟩, [], by rw [e]; exact p5, Nat.zero_le _, Nat.le_succ _, Nat.zero_le _, ⟨by decide, trivial, trivial⟩, fun h => by cases h⟩
theorem m_beg (T : Ty M) (A : AlW M) (D : StD d M.2.2) (n0 : ∃ o, o ≤ 16384 ∧ M.1 254 (M.2.2 248 (ndc (M.2.2 56 d 0) M.2.2 0) 0) 0 = nI o) : HX4_describe_0 d (nI p) M ∧ ∃ N, GX4_describe_0 d (nI p) M = .inl (d, nI p, nI 0, N) ∧ VDb d 12 N (sBe s00) ∧ Ext M N := by
  obtain ⟨p1, q1⟩ := v_clear T A D n0
  obtain ⟨p2, q2⟩ := m_cel (x := 2) (y := 2) (by omega) (by omega) q1 (by omega)
  obtain ⟨p3, q3⟩ := m_str (u := 109) (w := 144) (by decide) (by decide) (by decide) (by decide) q2 (by omega)
  obtain ⟨p4, q4⟩ := m_str (u := 128) (w := 107) (by decide) (by decide) (by decide) (by decide) q3 (by omega)
  obtain ⟨p5, q5⟩ := v_open (u := 108) (by decide) (by decide) q4 (by omega)
  obtain ⟨p6, q6⟩ := m_str (u := 138) (w := 104) (by decide) (by decide) (by decide) (by decide) q5 (by omega)
  obtain ⟨p7, q7⟩ := v_close (a := _) (b := _) (r := _) q6 (rfl) (by omega)
  obtain ⟨p8, q8⟩ := v_open (u := 116) (by decide) (by decide) q7 (by omega)
  obtain ⟨p9, q9⟩ := m_cel (x := 1) (y := 0) (by omega) (by omega) q8 (by omega)
  obtain ⟨p10, q10⟩ := m_num (u := 140) (v := 10000000) (by decide) (by decide) (by omega) q9 (by omega)
  have H : HX4_describe_0 d (nI p) M := by
    unfold HX4_describe_0
    exact ⟨p1, p2, v_is q2 (by decide) (by decide), p3, v_is q3 (by decide) (by decide), p4, p5, v_is q5 (by decide) (by decide), p6, p7, p8, p9, v_is q9 (by decide) (by decide), p10, trivial⟩
  have g := (gX4_describe_0 (fun _ _ _ _ => none) d (nI p) M T D.1 H).2
  refine ⟨H, _, rfl, v_le q10 (by omega), ?_⟩
  have g : pX4_describe M (GX4_describe_0 d (nI p) M) := g
  exact g.2
/-- what the describing ends in -/
def DsE (d : Nat) (N : FM) (X : List Nat) : Prop := Ty N ∧ StD d N.2.2 ∧ RwB (N.2.2 256 (N.2.2 57 d 0) 0) 65536 N X ∧ ∃ o, o ≤ 16384 ∧ N.1 254 (N.2.2 248 (ndc (N.2.2 56 d 0) N.2.2 0) 0) 0 = nI o
theorem ds_L (hp : p ≤ 4) : ∀ m j h n M s, h + m = p → m < j → VDb d n M s → n + 12 * m ≤ 60 → (∃ a b r, s.2.2 = a :: b :: r) → okSt (sAf p (sPs m h s)) = true → ∃ N, FX4_describe_L73 fN j d (nI p) (nI h) M = some (nI (finR (layR (sAf p (sPs m h s)))).length, N) ∧ Ext M N ∧ DsE d N (finR (layR (sAf p (sPs m h s)))) := by
  intro m
  induction m with
  | zero =>
    intro j h n M s hh hj V hn hK ok
    obtain ⟨j, rfl⟩ : ∃ y, j = y + 1 := ⟨j - 1, by omega⟩
    have ok : okSt (sAf p s) = true := ok
    show ∃ N, FX4_describe_73 fN (FX4_describe_L73 fN j) d (nI p) (nI h) M = some (nI (finR (layR (sAf p s))).length, N) ∧ Ext M N ∧ DsE d N (finR (layR (sAf p s)))
    obtain ⟨a, b, r, hK⟩ := hK
    have c1 : nI p ≤ nI h := (n_le (by omega) (by omega)).mpr (by omega)
    obtain ⟨p1, q1⟩ := v_close (a := a) (b := b) (r := r) V hK (by omega)
    generalize e1 : (GX5_close (M.2.2 56 d 0) M).2 = M1 at q1
    obtain ⟨p2, q2⟩ := v_open (u := 126) (by decide) (by decide) q1 (by omega)
    generalize e2 : GX4_open d 126 M1 = M2 at q2
    obtain ⟨p3, q3⟩ := m_str (u := 117) (w := 125) (by decide) (by decide) (by decide) (by decide) q2 (by omega)
    generalize e3 : GX4_string d 117 125 M2 = M3 at q3
    obtain ⟨p4, q4⟩ := m_win (f := 2147483648) (m := 4194304) (by decide) (by decide) q3 (by omega)
    have e4 : GX4_window d (Int64.ofInt 2147483648) (Int64.ofInt 4194304) M3 = GX4_window d (lN 2147483648) (lN 4194304) M3 := rfl
    generalize GX4_window d (lN 2147483648) (lN 4194304) M3 = M4 at e4 q4
    obtain ⟨p5, q5⟩ := v_close (a := s.1.length) (b := b) (r := r) q4 (congrArg (fun l => s.1.length :: List.tail l) hK) (by omega)
    generalize e5 : (GX5_close (M4.2.2 56 d 0) M4).2 = M5 at q5
    obtain ⟨p6, q6⟩ := m_dvs hp q5 (by omega)
    generalize e6 : GX4_devices d (nI p) M5 = M6 at q6
    obtain ⟨⟨T8, A8, D8⟩, W, v1, v2, v3, v4, v5, v6⟩ := q6
    have v1 : VTtr (M6.2.2 56 d 0) M6 W (sAf p s) := v1
    have v5 : ChK (sAf p s).1 (sAf p s).2.2 := v5
    have v6 : (sAf p s).2.2 ≠ [] := v6
    generalize eS : sAf p s = S9 at v1 v5 v6 ok ⊢
    obtain ⟨o1, o2, o3, o4, o5, o6⟩ := okSt_d ok
    obtain ⟨x1, N, x2, x3, x4, x5⟩ := X9_lay T8 ⟨tN_57 T8.1 D8.1, D8.2.1, ⟨D8.2.2.1.2.1, D8.2.2.1.2.2.1, D8.2.2.1.2.2.2⟩, D8.2.2.2.2.2.1, D8.2.2.2.2.2.2⟩ v1 (by omega) o1 o2 o3 o4 o5 o6
    generalize (layR S9).2 = LL at x5
    generalize finR (layR S9) = FF at x2 x5 ⊢
    have A : HX4_describe_73 d (nI p) (nI h) M ∧ GX4_describe_73 d (nI p) (nI h) M = .inr (nI FF.length, N) := by
      unfold HX4_describe_73 GX4_describe_73
      dsimp only
      rw [fi_pos c1, e1, e2, e3, e4, e5, e6, x2]
      exact ⟨⟨fun _ => ⟨p1, p2, v_is q2 (by decide) (by decide), p3, p4, p5, p6, x1, trivial⟩, fun z => absurd c1 z⟩, rfl⟩
    have g := gX4_describe_73 (FX4_describe_L73 fN j) d (nI p) (nI h) M V.1.1 V.1.2.2.1 A.1
    rw [A.2] at g
    refine ⟨N, g.1, g.2.2, x5.1.1, by rw [x3]; exact D8, by rw [x3]; have y := x5.2.2.1; rw [x3] at y; exact y, ?_⟩
    have pos : 0 < S9.1.length := Nat.lt_of_le_of_lt (Nat.zero_le _) (chK_h v5 v6)
    obtain ⟨-, pn⟩ := x5.2.1.1.2.2.1 0 pos
    have wl := x5.2.1.2
    rw [x3] at pn
    rw [x3]
    rcases pn with ⟨o, y1, -, y3, -⟩ | ⟨-, o, y0, y1, -⟩
    · exact ⟨o, by omega, y1⟩
    · exact ⟨o, y0, y1⟩
  | succ m ih =>
    intro j h n M s hh hj V hn hK ok
    obtain ⟨j, rfl⟩ : ∃ y, j = y + 1 := ⟨j - 1, by omega⟩
    have c1 : ¬ nI p ≤ nI h := fun z => by
      have := (n_le (by omega) (by omega)).mp z
      omega
    obtain ⟨p1, q1⟩ := m_pro (h := h) (by omega) V (by omega)
    obtain ⟨N, g1, g2, g3⟩ := ih j (h + 1) (n + 12) _ _ (by omega) (by omega) q1 (by omega) hK ok
    refine ⟨N, ?_, ext_tr (gX4_processor d (nI h) M V.1.1 V.1.2.2.1 p1).2.2 g2, g3⟩
    show FX4_describe_73 fN (FX4_describe_L73 fN j) d (nI p) (nI h) M = _
    rw [(gX4_describe_73 (FX4_describe_L73 fN j) d (nI p) (nI h) M V.1.1 V.1.2.2.1 ⟨fun z => absurd z c1, fun _ => ⟨p1, trivial⟩⟩).1]
    unfold GX4_describe_73
    dsimp only
    rw [fi_neg c1, up_g]
    exact g1
theorem X4_describe (h1 : 1 ≤ p) (h2 : p ≤ 4) (T : Ty M) (A : AlW M) (D : StD d M.2.2) (n0 : ∃ o, o ≤ 16384 ∧ M.1 254 (M.2.2 248 (ndc (M.2.2 56 d 0) M.2.2 0) 0) 0 = nI o) :
    HX4_describe d (nI p) M ∧ ∃ N, GX4_describe d (nI p) M = (nI (treB p).length, N) ∧ Ext M N ∧ DsE d N (treB p) := by
  obtain ⟨a1, N1, a2, a3, a4⟩ := m_beg (p := p) T A D n0
  obtain ⟨N, g1, g2, g3⟩ := ds_L (d := d) h2 p fN 0 12 N1 (sBe s00) (by omega) (by unfold fN; omega) a3 (by omega) ⟨_, _, _, rfl⟩ (sFin_ok h1 h2)
  have e : finR (layR (sAf p (sPs p 0 (sBe s00)))) = treB p := fin_e h1 h2
  rw [e] at g1 g3
  have Ax : FX4_describe fN d (nI p) M = some (nI (treB p).length, N) := by
    show FX4_describe_0 fN (FX4_describe_L73 fN fN) d (nI p) M = _
    rw [(gX4_describe_0 (FX4_describe_L73 fN fN) d (nI p) M T D.1 a1).1, a2]
    exact g1
  obtain ⟨x1, x2⟩ := op_of (d := ((0 : Int32), M)) Ax (P := OkR M) ⟨g3.1, ext_tr a4 g2⟩
  exact ⟨x1, N, x2, ext_tr a4 g2, g3⟩
end Ds
