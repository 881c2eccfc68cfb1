/-! trees: the component's Describer: its methods (printed by gen/lc.py) -/
set_option maxRecDepth 100000
abbrev DsF : Type := DSt → DSt
def sStr (u w : Nat) (s : DSt) : DSt := dProp (tx u) (tx w ++ [0]) s
def sNum (u v : Nat) (s : DSt) : DSt := dProp (tx u) (be4 v) s
def sNon (u : Nat) (s : DSt) : DSt := dProp (tx u) [] s
def sWin (f m : Nat) (s : DSt) : DSt := dProp (tx 132) ((be4 0 ++ be4 f) ++ (be4 0 ++ be4 m)) s
def sOpe (u : Nat) (s : DSt) : DSt := dOpen (tx u) s
def sCel (x y : Nat) (s : DSt) : DSt := sNum 103 y (sNum 101 x s)
def sLin (p one two : Nat) (s : DSt) : DSt := dProp (tx 123) (lnL one two p 0) s
section Dm
variable {d n u v w f m h p one two x y : Nat} {M N : FM} {S X V : List Nat} {s : DSt}
theorem v_is (V : VDb d n M s) (h1 : 100 ≤ u) (h2 : u ≤ 150) : fm_is M 7 7 u = true := (V.1.2.1.1 u h1 h2).1
theorem m_str (h1 : 100 ≤ u) (h2 : u ≤ 150) (h3 : 100 ≤ w) (h4 : w ≤ 150) (V : VDb d n M s) (hn : n < 120) : HX4_string d u w M ∧ VDb d (n + 1) (GX4_string d u w M) (sStr u w s) := by
  have l1 := tx_31 u
  have l2 := tx_31 w
  obtain ⟨p1, q1⟩ := v_begin h1 h2 V
  obtain ⟨p2, q2⟩ := v_text h3 h4 q1 (by omega)
  obtain ⟨p3, q3⟩ := v_add q2 (by rw [List.length_append]; omega) (Int32.ofInt 0)
  rw [show ui (Int32.ofInt 0) % 256 = 0 from rfl, List.append_assoc] at q3
  obtain ⟨p4, q4⟩ := v_finish h1 h2 q3 (by rw [len_a]; omega) hn
  unfold HX4_string HX4_string_0 GX4_string GX4_string_0
  exact ⟨⟨p1, p2, p3, p4, trivial⟩, q4⟩
theorem m_num (h1 : 100 ≤ u) (h2 : u ≤ 150) (hv : v < 4294967296) (V : VDb d n M s) (hn : n < 120) : HX4_number d u (nI v) M ∧ VDb d (n + 1) (GX4_number d u (nI v) M) (sNum u v s) := by
  have l1 := tx_31 u
  obtain ⟨p1, q1⟩ := v_begin h1 h2 V
  obtain ⟨p2, q2⟩ := v_num q1 (by omega) hv
  obtain ⟨p4, q4⟩ := v_finish h1 h2 q2 (by show 4 ≤ 90; omega) hn
  unfold HX4_number HX4_number_0 GX4_number GX4_number_0
  exact ⟨⟨p1, p2, p4, trivial⟩, q4⟩
theorem m_non (h1 : 100 ≤ u) (h2 : u ≤ 150) (V : VDb d n M s) (hn : n < 120) : HX4_nothing d u M ∧ VDb d (n + 1) (GX4_nothing d u M) (sNon u s) := by
  obtain ⟨p1, q1⟩ := v_begin h1 h2 V
  obtain ⟨p4, q4⟩ := v_finish (X := []) h1 h2 (by rw [List.append_nil]; exact q1) (by decide) hn
  unfold HX4_nothing HX4_nothing_0 GX4_nothing GX4_nothing_0
  exact ⟨⟨p1, p4, trivial⟩, q4⟩
theorem v_wide (hv : v < 4294967296) (V : VDp d n M s S) (hl : S.length + 8 ≤ 512) : HX4_wide d (lN v) M ∧ VDp d n (GX4_wide d (lN v) M) s (S ++ (be4 0 ++ be4 v)) := by
  have e1 : (lN v >>> ((Int32.ofInt 32).toInt64 &&& 63)).toInt32 = nI 0 := by
    exact ui_inj (by
      rw [ui_low, ul_sar0 _ _ (by rw [ul_lN]; omega), ul_lN, ui_nI, show ui (Int32.ofInt 32) % 64 = 32 from rfl]
      omega)
  have e2 : (lN v).toInt32 = nI v := ui_inj (by rw [ui_low, ul_lN, ui_nI]; omega)
  obtain ⟨p1, q1⟩ := v_num (v := 0) V (by omega) (by decide)
  obtain ⟨p2, q2⟩ := v_num (v := v) q1 (by rw [List.length_append]; show S.length + 4 + 4 ≤ 512; omega) hv
  rw [List.append_assoc] at q2
  unfold HX4_wide HX4_wide_0 GX4_wide GX4_wide_0
  dsimp only
  rw [e1, e2]
  exact ⟨⟨p1, p2, trivial⟩, q2⟩
theorem m_win (hf : f < 4294967296) (hm : m < 4294967296) (V : VDb d n M s) (hn : n < 120) : HX4_window d (lN f) (lN m) M ∧ VDb d (n + 1) (GX4_window d (lN f) (lN m) M) (sWin f m s) := by
  have l1 := tx_31 132
  obtain ⟨p1, q1⟩ := v_begin (u := 132) (by decide) (by decide) V
  obtain ⟨p2, q2⟩ := v_wide hf q1 (by omega)
  obtain ⟨p3, q3⟩ := v_wide hm q2 (by rw [List.length_append]; show (tx 132).length + 8 + 8 ≤ 512; omega)
  rw [List.append_assoc] at q3
  obtain ⟨p4, q4⟩ := v_finish (u := 132) (by decide) (by decide) q3 (by show 16 ≤ 90; omega) hn
  unfold HX4_window HX4_window_0 GX4_window GX4_window_0
  exact ⟨⟨p1, p2, p3, v_is q3.1 (by decide) (by decide), p4, trivial⟩, q4⟩
theorem m_cel (hx : x < 4294967296) (hy : y < 4294967296) (V : VDb d n M s) (hn : n + 1 < 120) : HX4_cells d (nI x) (nI y) M ∧ VDb d (n + 2) (GX4_cells d (nI x) (nI y) M) (sCel x y s) := by
  obtain ⟨p1, q1⟩ := m_num (u := 101) (by decide) (by decide) hx V (by omega)
  obtain ⟨p2, q2⟩ := m_num (u := 103) (by decide) (by decide) hy q1 hn
  unfold HX4_cells HX4_cells_0 GX4_cells GX4_cells_0
  exact ⟨⟨v_is V (by decide) (by decide), p1, v_is q1 (by decide) (by decide), p2, trivial⟩, q2⟩
theorem v_le {n' : Nat} (V : VDb d n M s) (h : n ≤ n') : VDb d n' M s := by
  obtain ⟨a, W, v, b1, b2, b3, b4⟩ := V
  exact ⟨a, W, v, by omega, by omega, by omega, b4⟩
theorem m_lin_L (h1 : one < 64) (h2 : two < 64) (hp : p ≤ 4) (hn : n < 120) : ∀ m j h M Y, h + m = p → m < j → VDp d n M s (tx 123 ++ Y) → Y.length = 16 * h → ∃ N, FX4_lines_L9 fN j d (nI p) (nI one) (nI two) (nI h) M = some N ∧ VDb d (n + 1) N (dProp (tx 123) (Y ++ lnL one two m h) s) ∧ Ext M N := by
  have l31 := tx_31 123
  intro m
  induction m with
  | zero =>
    intro j h M Y hh hj V hY
    obtain ⟨j, rfl⟩ : ∃ y, j = y + 1 := ⟨j - 1, by omega⟩
    obtain ⟨T, A, D⟩ := V.1.1
    have c1 : nI p ≤ nI h := (n_le (by omega) (by omega)).mpr (by omega)
    obtain ⟨p1, q1⟩ := v_finish (u := 123) (by decide) (by decide) V (by omega) hn
    refine ⟨_, ?_, by rw [show lnL one two 0 h = [] from rfl, List.append_nil]; exact q1, (gX4_finish d 123 M T (v_is V.1 (by decide) (by decide)) D.1 p1).2.2⟩
    show FX4_lines_9 fN (FX4_lines_L9 fN j) d (nI p) (nI one) (nI two) (nI h) M = _
    rw [(gX4_lines_9 (FX4_lines_L9 fN j) d (nI p) (nI one) (nI two) (nI h) M T D.1 ⟨fun _ => ⟨v_is V.1 (by decide) (by decide), p1, trivial⟩, fun z => absurd c1 z⟩).1]
    unfold GX4_lines_9
    rw [fi_pos c1]
    rfl
  | succ m ih =>
    intro j h M Y hh hj V hY
    obtain ⟨j, rfl⟩ : ∃ y, j = y + 1 := ⟨j - 1, by omega⟩
    obtain ⟨T, A, D⟩ := V.1.1
    have c1 : ¬ nI p ≤ nI h := fun z => by
      have := (n_le (by omega) (by omega)).mp z
      omega
    have l4 : ∀ n, (be4 n).length = 4 := fun _ => rfl
    obtain ⟨p1, q1⟩ := v_num (v := h + 1) V (by rw [List.length_append]; omega) (by omega)
    obtain ⟨p2, q2⟩ := v_num (v := one) q1 (by simp only [List.length_append, l4]; omega) (by omega)
    obtain ⟨p3, q3⟩ := v_num (v := h + 1) q2 (by simp only [List.length_append, l4]; omega) (by omega)
    obtain ⟨p4, q4⟩ := v_num (v := two) q3 (by simp only [List.length_append, l4]; omega) (by omega)
    have ee : (((tx 123 ++ Y ++ be4 (h + 1)) ++ be4 one) ++ be4 (h + 1)) ++ be4 two = tx 123 ++ (Y ++ (be4 (h + 1) ++ (be4 one ++ (be4 (h + 1) ++ be4 two)))) := by simp only [List.append_assoc]
    rw [ee] at q4
    obtain ⟨N, g1, g2, g3⟩ := ih j (h + 1) _ _ (by omega) (by omega) q4 (by simp only [List.length_append, l4]; omega)
    have x1 := (gX3_addNumber _ _ _ p1).2.2
    have x2 := (gX3_addNumber _ _ _ p2).2.2
    have x3 := (gX3_addNumber _ _ _ p3).2.2
    have x4 := (gX3_addNumber _ _ _ p4).2.2
    refine ⟨N, ?_, ?_, ext_tr x1 (ext_tr x2 (ext_tr x3 (ext_tr x4 g3)))⟩
    · have H : HX4_lines_9 d (nI p) (nI one) (nI two) (nI h) M := by
        unfold HX4_lines_9
        dsimp only
        rw [up_g]
        exact ⟨fun z => absurd z c1, fun _ => ⟨p1, p2, p3, p4, trivial⟩⟩
      show FX4_lines_9 fN (FX4_lines_L9 fN j) d (nI p) (nI one) (nI two) (nI h) M = _
      rw [(gX4_lines_9 (FX4_lines_L9 fN j) d (nI p) (nI one) (nI two) (nI h) M T D.1 H).1]
      unfold GX4_lines_9
      dsimp only
      rw [fi_neg c1, up_g]
      exact g1
    · have e3 : (Y ++ (be4 (h + 1) ++ (be4 one ++ (be4 (h + 1) ++ be4 two)))) ++ lnL one two m (h + 1) = Y ++ lnL one two (m + 1) h := by
        show _ = Y ++ (be4 (h + 1) ++ (be4 one ++ (be4 (h + 1) ++ (be4 two ++ lnL one two m (h + 1)))))
        simp only [List.append_assoc]
      rw [e3] at g2
      exact g2
theorem m_lin (h1 : one < 64) (h2 : two < 64) (hp : p ≤ 4) (V : VDb d n M s) (hn : n < 120) : HX4_lines d (nI p) (nI one) (nI two) M ∧ VDb d (n + 1) (GX4_lines d (nI p) (nI one) (nI two) M) (sLin p one two s) := by
  obtain ⟨p1, q1⟩ := v_begin (u := 123) (by decide) (by decide) V
  obtain ⟨N, g1, g2, g3⟩ := m_lin_L (Y := []) h1 h2 hp hn p fN 0 _ (by omega) (by unfold fN; omega) (by rw [List.append_nil]; exact q1) rfl
  have e := (gX4_begin d 123 M V.1.1 V.1.2.2.1 p1).2.2
  have A : FX4_lines fN d (nI p) (nI one) (nI two) M = some N := by
    show FX4_lines_0 fN (FX4_lines_L9 fN fN) d (nI p) (nI one) (nI two) M = _
    rw [(gX4_lines_0 (FX4_lines_L9 fN fN) d (nI p) (nI one) (nI two) M V.1.1 V.1.2.2.1 ⟨p1, trivial⟩).1]
    exact g1
  obtain ⟨a1, a2⟩ := op_of (d := M) A (P := OkV M) ⟨g2.1.1, ext_tr e g3⟩
  have a2 : GX4_lines d (nI p) (nI one) (nI two) M = N := a2
  rw [a2]
  exact ⟨a1, g2⟩

def sPro (h : Nat) (s : DSt) : DSt := dClose (dClose (sNum 130 (h + 1) (sStr 109 148 (sNon 119 (sNum 102 1 (sOpe 119 (sStr 127 139 (sStr 124 142 (sStr 109 146 (sStr 137 129 (sNum 132 h (sStr 117 110 (dOpen (tx 111 ++ [48 + h]) (s))))))))))))))
theorem m_pro (hh : h < 4) (V : VDb d n M s) (hn : n + 12 < 120) : HX4_processor d (nI h) M ∧ VDb d (n + 12) (GX4_processor d (nI h) M) (sPro h s) := by
  obtain ⟨k0, kr, hK⟩ : ∃ a r, s.2.2 = a :: r := by
    obtain ⟨-, W, -, -, -, -, -, b5⟩ := V
    cases h : s.2.2 with
    | nil => exact absurd h b5
    | cons a r => exact ⟨a, r, rfl⟩
  obtain ⟨p1, q1⟩ := v_openN (u := 111) (v := h) (by decide) (by decide) V (by omega) (by omega)
  generalize e1 : GX4_openNumbered d 111 (nI h) M = M1 at q1
  obtain ⟨p2, q2⟩ := m_str (u := 117) (w := 110) (by decide) (by decide) (by decide) (by decide) q1 (by omega)
  generalize e2 : GX4_string d 117 110 M1 = M2 at q2
  obtain ⟨p3, q3⟩ := m_num (u := 132) (v := h) (by decide) (by decide) (by omega) q2 (by omega)
  generalize e3 : GX4_number d 132 (nI h) M2 = M3 at q3
  obtain ⟨p4, q4⟩ := m_str (u := 137) (w := 129) (by decide) (by decide) (by decide) (by decide) q3 (by omega)
  generalize e4 : GX4_string d 137 129 M3 = M4 at q4
  obtain ⟨p5, q5⟩ := m_str (u := 109) (w := 146) (by decide) (by decide) (by decide) (by decide) q4 (by omega)
  generalize e5 : GX4_string d 109 146 M4 = M5 at q5
  obtain ⟨p6, q6⟩ := m_str (u := 124) (w := 142) (by decide) (by decide) (by decide) (by decide) q5 (by omega)
  generalize e6 : GX4_string d 124 142 M5 = M6 at q6
  obtain ⟨p7, q7⟩ := m_str (u := 127) (w := 139) (by decide) (by decide) (by decide) (by decide) q6 (by omega)
  generalize e7 : GX4_string d 127 139 M6 = M7 at q7
  obtain ⟨p8, q8⟩ := v_open (u := 119) (by decide) (by decide) q7 (by omega)
  generalize e8 : GX4_open d 119 M7 = M8 at q8
  obtain ⟨p9, q9⟩ := m_num (u := 102) (v := 1) (by decide) (by decide) (by omega) q8 (by omega)
  have e9 : GX4_number d 102 (Int32.ofInt 1) M8 = GX4_number d 102 (nI 1) M8 := rfl
  generalize GX4_number d 102 (nI 1) M8 = M9 at e9 q9
  obtain ⟨p10, q10⟩ := m_non (u := 119) (by decide) (by decide) q9 (by omega)
  generalize e10 : GX4_nothing d 119 M9 = M10 at q10
  obtain ⟨p11, q11⟩ := m_str (u := 109) (w := 148) (by decide) (by decide) (by decide) (by decide) q10 (by omega)
  generalize e11 : GX4_string d 109 148 M10 = M11 at q11
  obtain ⟨p12, q12⟩ := m_num (u := 130) (v := (h + 1)) (by decide) (by decide) (by omega) q11 (by omega)
  have e12 : GX4_number d 130 (nI h + Int32.ofInt 1) M11 = GX4_number d 130 (nI (h + 1)) M11 := by rw [up_g]
  generalize GX4_number d 130 (nI (h + 1)) M11 = M12 at e12 q12
  obtain ⟨p13, q13⟩ := v_close (a := _) (b := _) (r := _) q12 (rfl) (by omega)
  generalize e13 : (GX5_close (M12.2.2 56 d 0) M12).2 = M13 at q13
  obtain ⟨p14, q14⟩ := v_close (a := _) (b := _) (r := _) q13 (by show _ :: s.2.2 = _; rw [hK]) (by omega)
  generalize e14 : (GX5_close (M13.2.2 56 d 0) M13).2 = M14 at q14
  unfold HX4_processor HX4_processor_0 GX4_processor GX4_processor_0
  dsimp only
  rw [e1, e2, e3, e4, e5, e6, e7, e8, e9, e10, e11, e12, e13, e14]
  exact ⟨⟨p1, v_is q1 (by decide) (by decide), p2, v_is q2 (by decide) (by decide), p3, v_is q3 (by decide) (by decide), p4, v_is q4 (by decide) (by decide), p5, v_is q5 (by decide) (by decide), p6, v_is q6 (by decide) (by decide), p7, p8, v_is q8 (by decide) (by decide), p9, v_is q9 (by decide) (by decide), p10, v_is q10 (by decide) (by decide), p11, v_is q11 (by decide) (by decide), (by rw [up_g]; exact p12), p13, p14, trivial⟩, q14⟩
theorem winF_lt (w : Nat) : (winF w).1 < 4294967296 ∧ (winF w).2 < 4294967296 := by
  unfold winF
  by_cases h1 : w = 37
  · rw [if_pos h1]; decide
  · rw [if_neg h1]
    by_cases h2 : w = 38
    · rw [if_pos h2]; decide
    · rw [if_neg h2]
      by_cases h3 : w = 39
      · rw [if_pos h3]; decide
      · rw [if_neg h3]
        by_cases h4 : w = 40
        · rw [if_pos h4]; decide
        · rw [if_neg h4]; decide
def sDv0 (a k w : Nat) (s : DSt) : DSt := dClose (sWin (winF w).1 (winF w).2 (sStr 109 k (sOpe a s)))
def sDv1 (a k w c p : Nat) (s : DSt) : DSt := dClose (sNum 121 (p + 1) (sNum 122 c (sWin (winF w).1 (winF w).2 (sStr 109 k (sOpe a s)))))
theorem v_stk (V : VDb d n M s) : ∃ a r, s.2.2 = a :: r := by
  obtain ⟨-, W, -, -, -, -, -, b5⟩ := V
  cases h : s.2.2 with
  | nil => exact absurd h b5
  | cons a r => exact ⟨a, r, rfl⟩
theorem m_dv0 {a k w : Nat} (h1 : 100 ≤ a) (h2 : a ≤ 150) (h3 : 100 ≤ k) (h4 : k ≤ 150) (h5 : 37 ≤ w) (h6 : w ≤ 41) (V : VDb d n M s) (hn : n + 3 < 120) : HX4_device d a k w (Int32.ofInt 0) (nI p) M ∧ VDb d (n + 3) (GX4_device d a k w (Int32.ofInt 0) (nI p) M) (sDv0 a k w s) := by
  obtain ⟨k0, kr, hK⟩ := v_stk V
  obtain ⟨p1, q1⟩ := v_open h1 h2 V (by omega)
  obtain ⟨p2, q2⟩ := m_str (u := 109) (w := k) (by decide) (by decide) h3 h4 q1 (by omega)
  obtain ⟨p3, q3⟩ := m_win (f := (winF w).1) (m := (winF w).2) (winF_lt w).1 (winF_lt w).2 q2 (by omega)
  have w3 := q2.1.2.1.2 w h5 h6
  rw [← w3.1, ← w3.2] at p3 q3
  obtain ⟨p4, q4⟩ := v_close (a := _) (b := _) (r := _) q3 (by show _ :: s.2.2 = _; rw [hK]) (by omega)
  have c0 : Int32.ofInt 0 ≤ 0 := by decide
  unfold HX4_device HX4_device_0 GX4_device GX4_device_0
  dsimp only
  rw [fi_pos c0]
  exact ⟨⟨p1, v_is q1 (by decide) (by decide), p2, p3, fun _ => ⟨p4, trivial⟩, fun z => absurd c0 z⟩, q4⟩
theorem m_dv1 {a k w c : Nat} (h1 : 100 ≤ a) (h2 : a ≤ 150) (h3 : 100 ≤ k) (h4 : k ≤ 150) (h5 : 37 ≤ w) (h6 : w ≤ 41) (hc : 0 < c) (hc2 : c < 64) (hp : p ≤ 4) (V : VDb d n M s) (hn : n + 5 < 120) : HX4_device d a k w (nI c) (nI p) M ∧ VDb d (n + 5) (GX4_device d a k w (nI c) (nI p) M) (sDv1 a k w c p s) := by
  obtain ⟨k0, kr, hK⟩ := v_stk V
  obtain ⟨p1, q1⟩ := v_open h1 h2 V (by omega)
  obtain ⟨p2, q2⟩ := m_str (u := 109) (w := k) (by decide) (by decide) h3 h4 q1 (by omega)
  obtain ⟨p3, q3⟩ := m_win (f := (winF w).1) (m := (winF w).2) (winF_lt w).1 (winF_lt w).2 q2 (by omega)
  have w3 := q2.1.2.1.2 w h5 h6
  rw [← w3.1, ← w3.2] at p3 q3
  obtain ⟨p4, q4⟩ := m_num (u := 122) (v := c) (by decide) (by decide) (by omega) q3 (by omega)
  obtain ⟨p5, q5⟩ := m_num (u := 121) (v := p + 1) (by decide) (by decide) (by omega) q4 (by omega)
  obtain ⟨p6, q6⟩ := v_close (a := _) (b := _) (r := _) q5 (by show _ :: s.2.2 = _; rw [hK]) (by omega)
  have c0 : ¬ nI c ≤ 0 := fun z => by
    have := (n_le (a := c) (b := 0) (by omega) (by omega)).mp z
    omega
  rw [← up_g (s := p)] at p5 p6 q6
  unfold HX4_device HX4_device_0 GX4_device GX4_device_0
  dsimp only
  rw [fi_neg c0]
  exact ⟨⟨p1, v_is q1 (by decide) (by decide), p2, p3, fun z => absurd z c0, fun _ => ⟨v_is q3 (by decide) (by decide), p4, v_is q4 (by decide) (by decide), p5, p6, trivial⟩⟩, q6⟩
def sDvs (p : Nat) (s : DSt) : DSt := dClose (sDv1 106 143 41 1 p (sDv1 133 149 40 10 p (dClose (sNum 130 (p + 1) (sNum 136 31 (sWin (winF 39).1 (winF 39).2 (sLin p 11 9 (sStr 109 145 (sNon 119 (sNum 102 1 (sOpe 120 (dClose (sWin (winF 38).1 (winF 38).2 (sLin p 3 7 (sStr 109 150 (sOpe 141 (sDv0 118 147 37 (sNon 131 (sStr 109 134 (sCel 2 2 (sOpe 135 (s))))))))))))))))))))))
theorem m_dvs (hp : p ≤ 4) (V : VDb d n M s) (hn : n + 30 < 120) : HX4_devices d (nI p) M ∧ VDb d (n + 30) (GX4_devices d (nI p) M) (sDvs p s) := by
  obtain ⟨k0, kr, hK⟩ : ∃ a r, s.2.2 = a :: r := by
    obtain ⟨-, W, -, -, -, -, -, b5⟩ := V
    cases h : s.2.2 with
    | nil => exact absurd h b5
    | cons a r => exact ⟨a, r, rfl⟩
  obtain ⟨p1, q1⟩ := v_open (u := 135) (by decide) (by decide) V (by omega)
  generalize e1 : GX4_open d 135 M = M1 at q1
  obtain ⟨p2, q2⟩ := m_cel (x := 2) (y := 2) (by omega) (by omega) q1 (by omega)
  have e2 : GX4_cells d (Int32.ofInt 2) (Int32.ofInt 2) M1 = GX4_cells d (nI 2) (nI 2) M1 := rfl
  generalize GX4_cells d (nI 2) (nI 2) M1 = M2 at e2 q2
  obtain ⟨p3, q3⟩ := m_str (u := 109) (w := 134) (by decide) (by decide) (by decide) (by decide) q2 (by omega)
  generalize e3 : GX4_string d 109 134 M2 = M3 at q3
  obtain ⟨p4, q4⟩ := m_non (u := 131) (by decide) (by decide) q3 (by omega)
  generalize e4 : GX4_nothing d 131 M3 = M4 at q4
  obtain ⟨p5, q5⟩ := m_dv0 (p := p) (a := 118) (k := 147) (w := 37) (by decide) (by decide) (by decide) (by decide) (by decide) (by decide) q4 (by omega)
  generalize e5 : GX4_device d 118 147 37 (Int32.ofInt 0) (nI p) M4 = M5 at q5
  obtain ⟨p6, q6⟩ := v_open (u := 141) (by decide) (by decide) q5 (by omega)
  generalize e6 : GX4_open d 141 M5 = M6 at q6
  obtain ⟨p7, q7⟩ := m_str (u := 109) (w := 150) (by decide) (by decide) (by decide) (by decide) q6 (by omega)
  generalize e7 : GX4_string d 109 150 M6 = M7 at q7
  obtain ⟨p8, q8⟩ := m_lin (one := 3) (two := 7) (by decide) (by decide) hp q7 (by omega)
  have e8 : GX4_lines d (nI p) (Int32.ofInt 3) (Int32.ofInt 7) M7 = GX4_lines d (nI p) (nI 3) (nI 7) M7 := rfl
  generalize GX4_lines d (nI p) (nI 3) (nI 7) M7 = M8 at e8 q8
  obtain ⟨p9, q9⟩ := m_win (f := (winF 38).1) (m := (winF 38).2) (by decide) (by decide) q8 (by omega)
  have w9 := q8.1.2.1.2 38 (by decide) (by decide)
  rw [← w9.1, ← w9.2] at p9 q9
  generalize e9 : GX4_window d (M8.2.1 13 38 0) (M8.2.1 14 38 0) M8 = M9 at q9
  obtain ⟨p10, q10⟩ := v_close (a := _) (b := _) (r := _) q9 (rfl) (by omega)
  generalize e10 : (GX5_close (M9.2.2 56 d 0) M9).2 = M10 at q10
  obtain ⟨p11, q11⟩ := v_open (u := 120) (by decide) (by decide) q10 (by omega)
  generalize e11 : GX4_open d 120 M10 = M11 at q11
  obtain ⟨p12, q12⟩ := m_num (u := 102) (v := 1) (by decide) (by decide) (by omega) q11 (by omega)
  have e12 : GX4_number d 102 (Int32.ofInt 1) M11 = GX4_number d 102 (nI 1) M11 := rfl
  generalize GX4_number d 102 (nI 1) M11 = M12 at e12 q12
  obtain ⟨p13, q13⟩ := m_non (u := 119) (by decide) (by decide) q12 (by omega)
  generalize e13 : GX4_nothing d 119 M12 = M13 at q13
  obtain ⟨p14, q14⟩ := m_str (u := 109) (w := 145) (by decide) (by decide) (by decide) (by decide) q13 (by omega)
  generalize e14 : GX4_string d 109 145 M13 = M14 at q14
  obtain ⟨p15, q15⟩ := m_lin (one := 11) (two := 9) (by decide) (by decide) hp q14 (by omega)
  have e15 : GX4_lines d (nI p) (Int32.ofInt 11) (Int32.ofInt 9) M14 = GX4_lines d (nI p) (nI 11) (nI 9) M14 := rfl
  generalize GX4_lines d (nI p) (nI 11) (nI 9) M14 = M15 at e15 q15
  obtain ⟨p16, q16⟩ := m_win (f := (winF 39).1) (m := (winF 39).2) (by decide) (by decide) q15 (by omega)
  have w16 := q15.1.2.1.2 39 (by decide) (by decide)
  rw [← w16.1, ← w16.2] at p16 q16
  generalize e16 : GX4_window d (M15.2.1 13 39 0) (M15.2.1 14 39 0) M15 = M16 at q16
  obtain ⟨p17, q17⟩ := m_num (u := 136) (v := 31) (by decide) (by decide) (by omega) q16 (by omega)
  have e17 : GX4_number d 136 (Int32.ofInt 31) M16 = GX4_number d 136 (nI 31) M16 := rfl
  generalize GX4_number d 136 (nI 31) M16 = M17 at e17 q17
  obtain ⟨p18, q18⟩ := m_num (u := 130) (v := (p + 1)) (by decide) (by decide) (by omega) q17 (by omega)
  have e18 : GX4_number d 130 (nI p + Int32.ofInt 1) M17 = GX4_number d 130 (nI (p + 1)) M17 := by rw [up_g]
  generalize GX4_number d 130 (nI (p + 1)) M17 = M18 at e18 q18
  obtain ⟨p19, q19⟩ := v_close (a := _) (b := _) (r := _) q18 (rfl) (by omega)
  generalize e19 : (GX5_close (M18.2.2 56 d 0) M18).2 = M19 at q19
  obtain ⟨p20, q20⟩ := m_dv1 (p := p) (a := 133) (k := 149) (w := 40) (c := 10) (by decide) (by decide) (by decide) (by decide) (by decide) (by decide) (by decide) (by decide) hp q19 (by omega)
  have e20 : GX4_device d 133 149 40 (Int32.ofInt 10) (nI p) M19 = GX4_device d 133 149 40 (nI 10) (nI p) M19 := rfl
  generalize GX4_device d 133 149 40 (nI 10) (nI p) M19 = M20 at e20 q20
  obtain ⟨p21, q21⟩ := m_dv1 (p := p) (a := 106) (k := 143) (w := 41) (c := 1) (by decide) (by decide) (by decide) (by decide) (by decide) (by decide) (by decide) (by decide) hp q20 (by omega)
  have e21 : GX4_device d 106 143 41 (Int32.ofInt 1) (nI p) M20 = GX4_device d 106 143 41 (nI 1) (nI p) M20 := rfl
  generalize GX4_device d 106 143 41 (nI 1) (nI p) M20 = M21 at e21 q21
  obtain ⟨p22, q22⟩ := v_close (a := _) (b := _) (r := _) q21 (by show _ :: s.2.2 = _; rw [hK]) (by omega)
  generalize e22 : (GX5_close (M21.2.2 56 d 0) M21).2 = M22 at q22
  unfold HX4_devices HX4_devices_0 GX4_devices GX4_devices_0
  dsimp only
  rw [e1, e2, e3, e4, e5, e6, e7, e8, e9, e10, e11, e12, e13, e14, e15, e16, e17, e18, e19, e20, e21, e22]
  exact ⟨⟨p1, p2, v_is q2 (by decide) (by decide), p3, v_is q3 (by decide) (by decide), p4, p5, p6, v_is q6 (by decide) (by decide), p7, p8, p9, p10, p11, v_is q11 (by decide) (by decide), p12, v_is q12 (by decide) (by decide), p13, v_is q13 (by decide) (by decide), p14, p15, p16, v_is q16 (by decide) (by decide), p17, v_is q17 (by decide) (by decide), (by rw [up_g]; exact p18), p19, p20, p21, p22, trivial⟩, q22⟩
end Dm
