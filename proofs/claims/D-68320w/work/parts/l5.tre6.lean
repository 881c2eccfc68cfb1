/-! trees: the twin's tree, method by method (printed by gen/l5.py) -/
set_option maxRecDepth 100000
def tNo (s : Nat) (st : TSn) : TSn := tP (tC s (tF 1 st))
def tNu (s v : Nat) (st : TSn) : TSn := tQ (tF v (tO s st))
def tTx (s u : Nat) (st : TSn) : TSn := tQ (tC u (tO s st))
def tNt (s : Nat) (st : TSn) : TSn := tQ (tO s st)
def tE (v : Nat) (st : TSn) : TSn := tF v (tF (v / 4294967296) st)
def tRg (f m : Nat) (st : TSn) : TSn := tQ (tE m (tE f (tO 132 st)))
def tCe (x y : Nat) (st : TSn) : TSn := tNu 103 y (tNu 101 x st)
def tDo (st : TSn) : TSn := tF 2 st
def tLs (one two : Nat) : Nat → Nat → TSn → TSn
  | 0, _, st => st
  | m + 1, h, st => tLs one two m (h + 1) (tF two (tF (h + 1) (tF one (tF (h + 1) st))))
def tLn (p one two : Nat) (st : TSn) : TSn := tQ (tLs one two p 0 (tO 123 st))
section Ms
variable {t s u a v x y f m h p one two : Nat} {M0 M : FM} {st : TSn}
theorem vtb_le {a' : Nat} (V : VTb t M0 M st a) (h : a ≤ a') : VTb t M0 M st a' := ⟨V.1, V.2.1, V.2.2.1, Nat.le_trans V.2.2.2.1 h, V.2.2.2.2⟩
theorem opn_l {X : List Nat} : (tO s st).2.2 + 8 ≤ ((tO s st).1 ++ X).length := by
  obtain ⟨l1, l2⟩ := tO_l (s := s) (st := st)
  rw [List.length_append, l1, l2]
  omega
theorem ul63 {v : Nat} (hv : v < 9223372036854775808) : ul (lN v) = v := l_big (by omega)
theorem b_fourN (V : VTb t M0 M st a) (hv : v < 9223372036854775808) (ha : a + 4 ≤ 6144) : HX97_four t (lN v) M ∧ VTb t M0 (GX97_four t (lN v) M) (tF v st) (a + 4) := by
  have e := ul63 hv
  have h := b_four V (v := lN v) (by rw [e]; exact hv) ha
  rw [e] at h
  exact h
theorem b_node (V : VTb t M0 M st a) (h1 : 100 ≤ s) (h2 : s ≤ 150) (ha : a + 40 ≤ 6144) : HX97_node t s M ∧ VTb t M0 (GX97_node t s M) (tNo s st) (a + 39) := by
  obtain ⟨p1, q1⟩ := b_fourN V (v := 1) (by decide) (by omega)
  obtain ⟨p2, q2⟩ := b_chars q1 h1 h2 (by omega)
  obtain ⟨p3, q3⟩ := b_fill q2 (by omega)
  exact ⟨⟨p1, p2, p3, trivial⟩, vtb_le q3 (by omega)⟩
theorem b_number (V : VTb t M0 M st a) (h1 : 100 ≤ s) (h2 : s ≤ 150) (hs : tx s ∈ nmS) (hv : v < 9223372036854775808) (ha : a + 20 ≤ 6144) : HX97_number t s (lN v) M ∧ VTb t M0 (GX97_number t s (lN v) M) (tNu s v st) (a + 19) := by
  obtain ⟨p1, q1⟩ := b_open V h1 h2 hs (by omega)
  obtain ⟨p2, q2⟩ := b_fourN q1 (v := v) hv (by omega)
  obtain ⟨p3, q3⟩ := b_close q2 opn_l (by omega)
  exact ⟨⟨p1, p2, p3, trivial⟩, vtb_le q3 (by omega)⟩
theorem b_text (V : VTb t M0 M st a) (h1 : 100 ≤ s) (h2 : s ≤ 150) (hs : tx s ∈ nmS) (h3 : 100 ≤ u) (h4 : u ≤ 150) (ha : a + 48 ≤ 6144) : HX97_text t s u M ∧ VTb t M0 (GX97_text t s u M) (tTx s u st) (a + 47) := by
  obtain ⟨p1, q1⟩ := b_open V h1 h2 hs (by omega)
  obtain ⟨p2, q2⟩ := b_chars q1 h3 h4 (by omega)
  obtain ⟨p3, q3⟩ := b_close q2 (by
    show (tO s st).2.2 + 8 ≤ ((tO s st).1 ++ tx u ++ [0]).length
    rw [List.append_assoc]
    exact opn_l) (by omega)
  exact ⟨⟨p1, p2, p3, trivial⟩, vtb_le q3 (by omega)⟩
theorem b_nothing (V : VTb t M0 M st a) (h1 : 100 ≤ s) (h2 : s ≤ 150) (hs : tx s ∈ nmS) (ha : a + 16 ≤ 6144) : HX97_nothing t s M ∧ VTb t M0 (GX97_nothing t s M) (tNt s st) (a + 15) := by
  obtain ⟨p1, q1⟩ := b_open V h1 h2 hs (by omega)
  obtain ⟨p3, q3⟩ := b_close q1 (by
    have h := opn_l (s := s) (st := st) (X := [])
    rw [List.append_nil] at h
    exact h) (by omega)
  exact ⟨⟨p1, p3, trivial⟩, vtb_le q3 (by omega)⟩
theorem shr32 {v : Nat} (hv : v < 9223372036854775808) : ((lN v).toUInt64 >>> ((Int32.ofInt 32).toInt64.toUInt64 &&& Int64.toUInt64 63)).toInt64 = lN (v / 4294967296) := ul_inj (by
  rw [ul_ushr, ul63 hv, show ui (Int32.ofInt 32) % 64 = 32 from rfl, l_big (by omega)])
theorem b_eight (V : VTb t M0 M st a) (hv : v < 9223372036854775808) (ha : a + 8 ≤ 6144) : HX97_eight t (lN v) M ∧ VTb t M0 (GX97_eight t (lN v) M) (tE v st) (a + 8) := by
  obtain ⟨p1, q1⟩ := b_fourN V (v := v / 4294967296) (by omega) (by omega)
  obtain ⟨p2, q2⟩ := b_fourN q1 (v := v) hv (by omega)
  unfold HX97_eight HX97_eight_0 GX97_eight GX97_eight_0
  rw [shr32 hv]
  exact ⟨⟨p1, p2, trivial⟩, vtb_le q2 (by omega)⟩
theorem b_region (V : VTb t M0 M st a) (hf : f < 9223372036854775808) (hm : m < 9223372036854775808) (ha : a + 32 ≤ 6144) : HX97_region t (lN f) (lN m) M ∧ VTb t M0 (GX97_region t (lN f) (lN m) M) (tRg f m st) (a + 31) := by
  obtain ⟨p1, q1⟩ := b_open V (s := 132) (by decide) (by decide) (by decide) (by omega)
  obtain ⟨p2, q2⟩ := b_eight q1 hf (by omega)
  obtain ⟨p3, q3⟩ := b_eight q2 hm (by omega)
  obtain ⟨p4, q4⟩ := b_close q3 (by
    show (tO 132 st).2.2 + 8 ≤ ((((tO 132 st).1 ++ be4 _) ++ be4 _) ++ be4 _ ++ be4 _).length
    rw [List.append_assoc, List.append_assoc, List.append_assoc]
    exact opn_l) (by omega)
  exact ⟨⟨p1, p2, p3, p4, trivial⟩, vtb_le q4 (by omega)⟩
theorem b_done (V : VTb t M0 M st a) (ha : a + 4 ≤ 6144) : HX97_done t M ∧ VTb t M0 (GX97_done t M) (tDo st) (a + 4) := by
  obtain ⟨p1, q1⟩ := b_fourN V (v := 2) (by decide) (by omega)
  exact ⟨⟨p1, trivial⟩, q1⟩
theorem b_cells (V : VTb t M0 M st a) (hx : x < 64) (hy : y < 64) (ha : a + 40 ≤ 6144) : HX97_cells t (nI x) (nI y) M ∧ VTb t M0 (GX97_cells t (nI x) (nI y) M) (tCe x y st) (a + 38) := by
  obtain ⟨p1, q1⟩ := b_number V (s := 101) (v := x) (by decide) (by decide) (by decide) (by omega) (by omega)
  obtain ⟨p2, q2⟩ := b_number q1 (s := 103) (v := y) (by decide) (by decide) (by decide) (by omega) (by omega)
  unfold HX97_cells HX97_cells_0 GX97_cells GX97_cells_0
  rw [o_64 (by omega), o_64 (by omega)]
  exact ⟨⟨p1, p2, trivial⟩, vtb_le q2 (by omega)⟩
theorem tLs_l : ∀ m h (st : TSn), ∃ X, (tLs one two m h st).1 = st.1 ++ X ∧ (tLs one two m h st).2.2 = st.2.2
  | 0, _, st => ⟨[], (List.append_nil _).symm, rfl⟩
  | m + 1, h, st => by
    obtain ⟨X, e1, e2⟩ := tLs_l m (h + 1) (tF two (tF (h + 1) (tF one (tF (h + 1) st))))
    refine ⟨be4 (h + 1) ++ (be4 one ++ (be4 (h + 1) ++ (be4 two ++ X))), ?_, e2⟩
    show (tLs one two m (h + 1) (tF two (tF (h + 1) (tF one (tF (h + 1) st))))).1 = _
    rw [e1]
    show (((st.1 ++ be4 (h + 1)) ++ be4 one) ++ be4 (h + 1)) ++ be4 two ++ X = _
    simp only [List.append_assoc]
theorem b_lines_L (h1 : one < 64) (h2 : two < 64) (hp : p ≤ 4) {st0 : TSn} (hl : ∀ X : List Nat, st0.2.2 + 8 ≤ (st0.1 ++ X).length) : ∀ m j h a M st, h + m = p → m < j → VTb t M0 M st a → a + 16 * m + 4 ≤ 6144 → (∃ X, st.1 = st0.1 ++ X ∧ st.2.2 = st0.2.2) →
    ∃ N, FX97_lines_L9 fN j t (nI p) (nI one) (nI two) (nI h) M = some N ∧ VTb t M0 N (tQ (tLs one two m h st)) (a + 16 * m + 3) := by
  intro m
  induction m with
  | zero =>
    intro j h a M st hh hj V ha hX
    obtain ⟨j, rfl⟩ : ∃ y, j = y + 1 := ⟨j - 1, by omega⟩
    have c1 : nI p ≤ nI h := (n_le (by omega) (by omega)).mpr (by omega)
    obtain ⟨X, x1, x2⟩ := hX
    obtain ⟨p1, q1⟩ := b_close V (by rw [x1, x2]; exact hl X) (by omega)
    refine ⟨_, ?_, vtb_le q1 (by omega)⟩
    show FX97_lines_9 fN (FX97_lines_L9 fN j) t (nI p) (nI one) (nI two) (nI h) M = _
    rw [(gX97_lines_9 (FX97_lines_L9 fN j) t (nI p) (nI one) (nI two) (nI h) M V.2.1.1.1.1 V.2.1.1.1.2.2 ⟨fun _ => ⟨p1, trivial⟩, fun z => absurd c1 z⟩).1]
    unfold GX97_lines_9
    rw [fi_pos c1]
    rfl
  | succ m ih =>
    intro j h a M st hh hj V ha hX
    obtain ⟨j, rfl⟩ : ∃ y, j = y + 1 := ⟨j - 1, by omega⟩
    have c1 : ¬ nI p ≤ nI h := fun z => by
      have := (n_le (by omega) (by omega)).mp z
      omega
    have eh : (nI h + Int32.ofInt 1).toInt64 = lN (h + 1) := by rw [up_b (by omega), o_64 (by omega)]
    obtain ⟨p1, q1⟩ := b_fourN V (v := h + 1) (by omega) (by omega)
    obtain ⟨p2, q2⟩ := b_fourN q1 (v := one) (by omega) (by omega)
    obtain ⟨p3, q3⟩ := b_fourN q2 (v := h + 1) (by omega) (by omega)
    obtain ⟨p4, q4⟩ := b_fourN q3 (v := two) (by omega) (by omega)
    have H : HX97_lines_9 t (nI p) (nI one) (nI two) (nI h) M := by
      unfold HX97_lines_9
      dsimp only
      rw [eh, o_64 (by omega), o_64 (by omega)]
      exact ⟨fun z => absurd z c1, fun _ => ⟨p1, p2, p3, p4, trivial⟩⟩
    have G : GX97_lines_9 t (nI p) (nI one) (nI two) (nI h) M = .inl (t, nI p, nI one, nI two, nI (h + 1), GX97_four t (lN two) (GX97_four t (lN (h + 1)) (GX97_four t (lN one) (GX97_four t (lN (h + 1)) M)))) := by
      unfold GX97_lines_9
      dsimp only
      rw [fi_neg c1, eh, o_64 (by omega), o_64 (by omega), up_b (by omega)]
    show ∃ N, FX97_lines_9 fN (FX97_lines_L9 fN j) t (nI p) (nI one) (nI two) (nI h) M = some N ∧ _
    rw [(gX97_lines_9 (FX97_lines_L9 fN j) t (nI p) (nI one) (nI two) (nI h) M V.2.1.1.1.1 V.2.1.1.1.2.2 H).1, G]
    obtain ⟨X, x1, x2⟩ := hX
    obtain ⟨N, g1, g2⟩ := ih j (h + 1) (a + 16) _ _ (by omega) (by omega) (vtb_le q4 (by omega)) (by omega) ⟨X ++ (be4 (h + 1) ++ (be4 one ++ (be4 (h + 1) ++ be4 two))), by
      show (((st.1 ++ be4 (h + 1)) ++ be4 one) ++ be4 (h + 1)) ++ be4 two = _
      rw [x1]
      simp only [List.append_assoc], x2⟩
    exact ⟨N, g1, vtb_le g2 (by omega)⟩
theorem b_lines (V : VTb t M0 M st a) (hp : p ≤ 4) (h1 : one < 64) (h2 : two < 64) (ha : a + 80 ≤ 6144) : HX97_lines t (nI p) (nI one) (nI two) M ∧ VTb t M0 (GX97_lines t (nI p) (nI one) (nI two) M) (tLn p one two st) (a + 79) := by
  obtain ⟨p1, q1⟩ := b_open V (s := 123) (by decide) (by decide) (by decide) (by omega)
  obtain ⟨N, g1, g2⟩ := b_lines_L (p := p) (st0 := tO 123 st) h1 h2 hp (fun X => opn_l) p fN 0 (a + 12) _ _ (by omega) (by unfold fN; omega) q1 (by omega) ⟨[], (List.append_nil _).symm, rfl⟩
  have A : FX97_lines fN t (nI p) (nI one) (nI two) M = some N := by
    show FX97_lines_0 fN (FX97_lines_L9 fN fN) t (nI p) (nI one) (nI two) M = _
    rw [(gX97_lines_0 (FX97_lines_L9 fN fN) t (nI p) (nI one) (nI two) M V.2.1.1.1.1 V.2.1.1.1.2.2 ⟨p1, trivial⟩).1]
    exact g1
  have n0 : M.2.2 = M0.2.2 := V.1.1
  obtain ⟨h1, e1⟩ := op_of (d := M) A (P := OkV M) ⟨g2.2.1.1.1.1, fun b _ => by rw [g2.1.1, V.1.1]; exact ⟨rfl, rfl⟩⟩
  have e1 : GX97_lines t (nI p) (nI one) (nI two) M = N := e1
  rw [e1]
  exact ⟨h1, vtb_le g2 (by omega)⟩
def tPr (s h : Nat) (st : TSn) : TSn := tDo (tDo (tNu 130 (h + 1) (tTx 109 148 (tNt 119 (tNu 102 (1) (tNo 119 (tTx 127 139 (tTx 124 142 (tTx 109 146 (tTx 137 129 (tNu 132 (h) (tTx 117 110 (tNo s (st))))))))))))))
theorem b_proc32 (V : VTb t M0 M st a) (hs1 : 100 ≤ s) (hs2 : s ≤ 150) (hh : h < 4) (ha : a + 441 ≤ 6144) : HX97_processor_32 t (nI h) t s M ∧ VTb t M0 (GX97_processor_32 t (nI h) t s M) (tPr s h st) (a + 440) := by
  obtain ⟨p0, q0⟩ := b_node V (s := s) hs1 hs2 (by omega)
  obtain ⟨p1, q1⟩ := b_text q0 (s := 117) (u := 110) (by decide) (by decide) (by decide) (by decide) (by decide) (by omega)
  obtain ⟨p2, q2⟩ := b_number q1 (s := 132) (v := h) (by decide) (by decide) (by decide) (by omega) (by omega)
  obtain ⟨p3, q3⟩ := b_text q2 (s := 137) (u := 129) (by decide) (by decide) (by decide) (by decide) (by decide) (by omega)
  obtain ⟨p4, q4⟩ := b_text q3 (s := 109) (u := 146) (by decide) (by decide) (by decide) (by decide) (by decide) (by omega)
  obtain ⟨p5, q5⟩ := b_text q4 (s := 124) (u := 142) (by decide) (by decide) (by decide) (by decide) (by decide) (by omega)
  obtain ⟨p6, q6⟩ := b_text q5 (s := 127) (u := 139) (by decide) (by decide) (by decide) (by decide) (by decide) (by omega)
  obtain ⟨p7, q7⟩ := b_node q6 (s := 119) (by decide) (by decide) (by omega)
  obtain ⟨p8, q8⟩ := b_number q7 (s := 102) (v := 1) (by decide) (by decide) (by decide) (by omega) (by omega)
  obtain ⟨p9, q9⟩ := b_nothing q8 (s := 119) (by decide) (by decide) (by decide) (by omega)
  obtain ⟨p10, q10⟩ := b_text q9 (s := 109) (u := 148) (by decide) (by decide) (by decide) (by decide) (by decide) (by omega)
  obtain ⟨p11, q11⟩ := b_number q10 (s := 130) (v := h + 1) (by decide) (by decide) (by decide) (by omega) (by omega)
  obtain ⟨p12, q12⟩ := b_done q11 (by omega)
  obtain ⟨p13, q13⟩ := b_done q12 (by omega)
  unfold HX97_processor_32 GX97_processor_32
  dsimp only
  rw [up_b (by omega), o_64 (by omega), o_64 (by omega)]
  exact ⟨⟨p0, p1, p2, p3, p4, p5, p6, p7, p8, p9, p10, p11, p12, p13, trivial⟩, vtb_le q13 (by omega)⟩
theorem b_proc (V : VTb t M0 M st a) (hh : h < 4) (ha : a + 441 ≤ 6144) : HX97_processor t (nI h) M ∧ VTb t M0 (GX97_processor t (nI h) M) (tPr (112 + h) h st) (a + 440) := by
  unfold HX97_processor HX97_processor_0 GX97_processor GX97_processor_0
  have : h = 0 ∨ h = 1 ∨ h = 2 ∨ h = 3 := by omega
  have d0 : nI 0 = 0 := rfl
  have d1 : nI 1 = Int32.ofInt 1 := rfl
  have d2 : nI 2 = Int32.ofInt 2 := rfl
  have n1 : ¬ nI 1 = 0 := by decide
  have n2 : ¬ nI 2 = 0 := by decide
  have n3 : ¬ nI 3 = 0 := by decide
  have m2 : ¬ nI 2 = Int32.ofInt 1 := by decide
  have m3 : ¬ nI 3 = Int32.ofInt 1 := by decide
  have k3 : ¬ nI 3 = Int32.ofInt 2 := by decide
  rcases this with rfl | rfl | rfl | rfl
  · rw [fi_pos d0]
    obtain ⟨p1, q1⟩ := b_proc32 V (s := 112) (by decide) (by decide) (h := 0) (by decide) ha
    exact ⟨⟨fun _ => p1, fun z => absurd d0 z⟩, q1⟩
  · rw [fi_neg n1, fi_pos d1]
    obtain ⟨p1, q1⟩ := b_proc32 V (s := 113) (by decide) (by decide) (h := 1) (by decide) ha
    exact ⟨⟨fun z => absurd z n1, fun _ => ⟨fun _ => p1, fun z => absurd d1 z⟩⟩, q1⟩
  · rw [fi_neg n2, fi_neg m2, fi_pos d2]
    obtain ⟨p1, q1⟩ := b_proc32 V (s := 114) (by decide) (by decide) (h := 2) (by decide) ha
    exact ⟨⟨fun z => absurd z n2, fun _ => ⟨fun z => absurd z m2, fun _ => ⟨fun _ => p1, fun z => absurd d2 z⟩⟩⟩, q1⟩
  · rw [fi_neg n3, fi_neg m3, fi_neg k3]
    obtain ⟨p1, q1⟩ := b_proc32 V (s := 115) (by decide) (by decide) (h := 3) (by decide) ha
    exact ⟨⟨fun z => absurd z n3, fun _ => ⟨fun z => absurd z m3, fun _ => ⟨fun z => absurd z k3, fun _ => p1⟩⟩⟩, q1⟩
def tDv (p : Nat) (st : TSn) : TSn := tDo (tNu 121 (p + 1) (tNu 122 (1) (tRg 268439552 4096 (tTx 109 143 (tNo 106 (tDo (tNu 121 (p + 1) (tNu 122 (10) (tRg 268435456 256 (tTx 109 149 (tNo 133 (tDo (tNu 130 (p + 1) (tNu 136 (31) (tRg 201326592 4194304 (tLn p 11 9 (tTx 109 145 (tNt 119 (tNu 102 (1) (tNo 120 (tDo (tRg 33554432 65536 (tLn p 3 7 (tTx 109 150 (tNo 141 (tDo (tRg 1048576 4096 (tTx 109 147 (tNo 118 (st))))))))))))))))))))))))))))))
theorem b_dev (V : VTb t M0 M st a) (hp : p ≤ 4) (ha : a + 912 ≤ 6144) : HX97_devices t (nI p) M ∧ VTb t M0 (GX97_devices t (nI p) M) (tDv p st) (a + 911) := by
  obtain ⟨p0, q0⟩ := b_node V (s := 118) (by decide) (by decide) (by omega)
  obtain ⟨p1, q1⟩ := b_text q0 (s := 109) (u := 147) (by decide) (by decide) (by decide) (by decide) (by decide) (by omega)
  obtain ⟨p2, q2⟩ := b_region q1 (f := 1048576) (m := 4096) (by decide) (by decide) (by omega)
  obtain ⟨p3, q3⟩ := b_done q2 (by omega)
  obtain ⟨p4, q4⟩ := b_node q3 (s := 141) (by decide) (by decide) (by omega)
  obtain ⟨p5, q5⟩ := b_text q4 (s := 109) (u := 150) (by decide) (by decide) (by decide) (by decide) (by decide) (by omega)
  obtain ⟨p6, q6⟩ := b_lines q5 (p := p) (one := 3) (two := 7) hp (by decide) (by decide) (by omega)
  obtain ⟨p7, q7⟩ := b_region q6 (f := 33554432) (m := 65536) (by decide) (by decide) (by omega)
  obtain ⟨p8, q8⟩ := b_done q7 (by omega)
  obtain ⟨p9, q9⟩ := b_node q8 (s := 120) (by decide) (by decide) (by omega)
  obtain ⟨p10, q10⟩ := b_number q9 (s := 102) (v := 1) (by decide) (by decide) (by decide) (by omega) (by omega)
  obtain ⟨p11, q11⟩ := b_nothing q10 (s := 119) (by decide) (by decide) (by decide) (by omega)
  obtain ⟨p12, q12⟩ := b_text q11 (s := 109) (u := 145) (by decide) (by decide) (by decide) (by decide) (by decide) (by omega)
  obtain ⟨p13, q13⟩ := b_lines q12 (p := p) (one := 11) (two := 9) hp (by decide) (by decide) (by omega)
  obtain ⟨p14, q14⟩ := b_region q13 (f := 201326592) (m := 4194304) (by decide) (by decide) (by omega)
  obtain ⟨p15, q15⟩ := b_number q14 (s := 136) (v := 31) (by decide) (by decide) (by decide) (by omega) (by omega)
  obtain ⟨p16, q16⟩ := b_number q15 (s := 130) (v := p + 1) (by decide) (by decide) (by decide) (by omega) (by omega)
  obtain ⟨p17, q17⟩ := b_done q16 (by omega)
  obtain ⟨p18, q18⟩ := b_node q17 (s := 133) (by decide) (by decide) (by omega)
  obtain ⟨p19, q19⟩ := b_text q18 (s := 109) (u := 149) (by decide) (by decide) (by decide) (by decide) (by decide) (by omega)
  obtain ⟨p20, q20⟩ := b_region q19 (f := 268435456) (m := 256) (by decide) (by decide) (by omega)
  obtain ⟨p21, q21⟩ := b_number q20 (s := 122) (v := 10) (by decide) (by decide) (by decide) (by omega) (by omega)
  obtain ⟨p22, q22⟩ := b_number q21 (s := 121) (v := p + 1) (by decide) (by decide) (by decide) (by omega) (by omega)
  obtain ⟨p23, q23⟩ := b_done q22 (by omega)
  obtain ⟨p24, q24⟩ := b_node q23 (s := 106) (by decide) (by decide) (by omega)
  obtain ⟨p25, q25⟩ := b_text q24 (s := 109) (u := 143) (by decide) (by decide) (by decide) (by decide) (by decide) (by omega)
  obtain ⟨p26, q26⟩ := b_region q25 (f := 268439552) (m := 4096) (by decide) (by decide) (by omega)
  obtain ⟨p27, q27⟩ := b_number q26 (s := 122) (v := 1) (by decide) (by decide) (by decide) (by omega) (by omega)
  obtain ⟨p28, q28⟩ := b_number q27 (s := 121) (v := p + 1) (by decide) (by decide) (by decide) (by omega) (by omega)
  obtain ⟨p29, q29⟩ := b_done q28 (by omega)
  unfold HX97_devices HX97_devices_0 GX97_devices GX97_devices_0
  dsimp only
  rw [up_b (by omega), o_64 (by omega)]
  exact ⟨⟨p0, p1, p2, p3, p4, p5, p6, p7, p8, p9, p10, p11, p12, p13, p14, p15, p16, p17, p18, p19, p20, p21, p22, p23, p24, p25, p26, p27, p28, p29, trivial⟩, vtb_le q29 (by omega)⟩
def tM0 (st : TSn) : TSn := tNu 140 (10000000) (tCe 1 0 (tNo 116 (tDo (tTx 138 104 (tNo 108 (tTx 128 107 (tTx 109 144 (tCe 2 2 (tNo 100 (st))))))))))
theorem b_m0 (V : VTb t M0 M st a) (ha : a + 358 ≤ 6144) : HX97_machine_0 t (nI p) M ∧ ∃ N, GX97_machine_0 t (nI p) M = .inl (t, nI p, Int32.ofInt 0, N) ∧ VTb t M0 N (tM0 st) (a + 357) := by
  obtain ⟨p0, q0⟩ := b_node V (s := 100) (by decide) (by decide) (by omega)
  obtain ⟨p1, q1⟩ := b_cells q0 (x := 2) (y := 2) (by decide) (by decide) (by omega)
  obtain ⟨p2, q2⟩ := b_text q1 (s := 109) (u := 144) (by decide) (by decide) (by decide) (by decide) (by decide) (by omega)
  obtain ⟨p3, q3⟩ := b_text q2 (s := 128) (u := 107) (by decide) (by decide) (by decide) (by decide) (by decide) (by omega)
  obtain ⟨p4, q4⟩ := b_node q3 (s := 108) (by decide) (by decide) (by omega)
  obtain ⟨p5, q5⟩ := b_text q4 (s := 138) (u := 104) (by decide) (by decide) (by decide) (by decide) (by decide) (by omega)
  obtain ⟨p6, q6⟩ := b_done q5 (by omega)
  obtain ⟨p7, q7⟩ := b_node q6 (s := 116) (by decide) (by decide) (by omega)
  obtain ⟨p8, q8⟩ := b_cells q7 (x := 1) (y := 0) (by decide) (by decide) (by omega)
  obtain ⟨p9, q9⟩ := b_number q8 (s := 140) (v := 10000000) (by decide) (by decide) (by decide) (by omega) (by omega)
  exact ⟨⟨p0, p1, p2, p3, p4, p5, p6, p7, p8, p9, trivial⟩, _, rfl, vtb_le q9 (by omega)⟩
def tM1 (p : Nat) (st : TSn) : TSn := tF 9 (tDo (tDo (tDv p (tNt 131 (tTx 109 134 (tCe 2 2 (tNo 135 (tDo (tRg 2147483648 4194304 (tTx 117 125 (tNo 126 (tDo (st)))))))))))))
theorem b_m1 (V : VTb t M0 M st a) (hp : p ≤ 4) (ha : a + 1188 ≤ 6144) : HX97_machine_69 t (nI p) (nI p) M ∧ ∃ N, GX97_machine_69 t (nI p) (nI p) M = .inr N ∧ VTb t M0 N (tM1 p st) (a + 1187) := by
  obtain ⟨p0, q0⟩ := b_done V (by omega)
  obtain ⟨p1, q1⟩ := b_node q0 (s := 126) (by decide) (by decide) (by omega)
  obtain ⟨p2, q2⟩ := b_text q1 (s := 117) (u := 125) (by decide) (by decide) (by decide) (by decide) (by decide) (by omega)
  obtain ⟨p3, q3⟩ := b_region q2 (f := 2147483648) (m := 4194304) (by decide) (by decide) (by omega)
  obtain ⟨p4, q4⟩ := b_done q3 (by omega)
  obtain ⟨p5, q5⟩ := b_node q4 (s := 135) (by decide) (by decide) (by omega)
  obtain ⟨p6, q6⟩ := b_cells q5 (x := 2) (y := 2) (by decide) (by decide) (by omega)
  obtain ⟨p7, q7⟩ := b_text q6 (s := 109) (u := 134) (by decide) (by decide) (by decide) (by decide) (by decide) (by omega)
  obtain ⟨p8, q8⟩ := b_nothing q7 (s := 131) (by decide) (by decide) (by decide) (by omega)
  obtain ⟨p9, q9⟩ := b_dev q8 hp (by omega)
  obtain ⟨p10, q10⟩ := b_done q9 (by omega)
  obtain ⟨p11, q11⟩ := b_done q10 (by omega)
  obtain ⟨p12, q12⟩ := b_fourN q11 (v := 9) (by decide) (by omega)
  have c1 : nI p ≤ nI p := (n_le (by omega) (by omega)).mpr (Nat.le_refl _)
  refine ⟨⟨fun _ => ⟨p0, p1, p2, p3, p4, p5, p6, p7, p8, p9, p10, p11, p12, trivial⟩, fun z => absurd c1 z⟩, _, ?_, vtb_le q12 (by omega)⟩
  unfold GX97_machine_69
  rw [fi_pos c1]
  rfl
def tPs : Nat → Nat → TSn → TSn
  | 0, _, st => st
  | m + 1, h, st => tPs m (h + 1) (tPr (112 + h) h st)
theorem b_mach_L (hp : p ≤ 4) : ∀ m j h a M st, h + m = p → m < j → VTb t M0 M st a → a + 440 * m + 1188 ≤ 6144 → ∃ N, FX97_machine_L69 fN j t (nI p) (nI h) M = some N ∧ VTb t M0 N (tM1 p (tPs m h st)) (a + 440 * m + 1187) := by
  intro m
  induction m with
  | zero =>
    intro j h a M st hh hj V ha
    obtain ⟨j, rfl⟩ : ∃ y, j = y + 1 := ⟨j - 1, by omega⟩
    have hh' : h = p := by omega
    subst hh'
    obtain ⟨p1, N, e1, q1⟩ := b_m1 V hp (by omega)
    refine ⟨N, ?_, vtb_le q1 (by omega)⟩
    show FX97_machine_69 fN (FX97_machine_L69 fN j) t (nI h) (nI h) M = _
    rw [(gX97_machine_69 (FX97_machine_L69 fN j) t (nI h) (nI h) M V.2.1.1.1.1 V.2.1.1.1.2.2 p1).1, e1]
    rfl
  | succ m ih =>
    intro j h a M st hh hj V ha
    obtain ⟨j, rfl⟩ : ∃ y, j = y + 1 := ⟨j - 1, by omega⟩
    have c1 : ¬ nI p ≤ nI h := fun z => by
      have := (n_le (by omega) (by omega)).mp z
      omega
    obtain ⟨p1, q1⟩ := b_proc V (h := h) (by omega) (by omega)
    have H : HX97_machine_69 t (nI p) (nI h) M := ⟨fun z => absurd z c1, fun _ => ⟨p1, trivial⟩⟩
    obtain ⟨N, g1, g2⟩ := ih j (h + 1) (a + 440) _ _ (by omega) (by omega) q1 (by omega)
    refine ⟨N, ?_, vtb_le g2 (by omega)⟩
    show FX97_machine_69 fN (FX97_machine_L69 fN j) t (nI p) (nI h) M = _
    rw [(gX97_machine_69 (FX97_machine_L69 fN j) t (nI p) (nI h) M V.2.1.1.1.1 V.2.1.1.1.2.2 H).1]
    unfold GX97_machine_69
    dsimp only
    rw [fi_neg c1, up_b (by omega)]
    exact g1
/-- the whole, behind an empty tree -/
def tM (p : Nat) : TSn := tM1 p (tPs p 0 (tM0 ([], [], 0)))
theorem b_mach (hp : p ≤ 4) {la : Nat} (V : VTb t M0 M ([], [], la) 0) : HX97_machine t (nI p) M ∧ ∃ N, GX97_machine t (nI p) M = N ∧ VTb t M0 N (tM1 p (tPs p 0 (tM0 ([], [], la)))) 3304 := by
  obtain ⟨p1, N0, e1, q1⟩ := b_m0 (p := p) V (by decide)
  obtain ⟨N, g1, g2⟩ := b_mach_L (p := p) hp p fN 0 _ _ _ (by omega) (by unfold fN; omega) q1 (by omega)
  have Ax : FX97_machine fN t (nI p) M = some N := by
    show FX97_machine_0 fN (FX97_machine_L69 fN fN) t (nI p) M = _
    rw [(gX97_machine_0 (FX97_machine_L69 fN fN) t (nI p) M V.2.1.1.1.1 V.2.1.1.1.2.2 p1).1, e1]
    exact g1
  obtain ⟨h1, x1⟩ := op_of (d := M) Ax (P := OkV M) ⟨g2.2.1.1.1.1, fun b _ => by rw [g2.1.1, V.1.1]; exact ⟨rfl, rfl⟩⟩
  exact ⟨h1, N, x1, vtb_le g2 (by omega)⟩
end Ms
