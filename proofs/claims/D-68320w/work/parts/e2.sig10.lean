/-! the signals: lines, the time, what went out -/
set_option maxRecDepth 100000
theorem n_2h {h : Nat} (hh : h < 4) : Int32.ofInt 2 * nI h = nI (2 * h) ∧ nI (2 * h) + Int32.ofInt 1 = nI (2 * h + 1) ∧ nI (2 * h) + Int32.ofInt 0 = nI (2 * h) := by
  have : h = 0 ∨ h = 1 ∨ h = 2 ∨ h = 3 := by omega
  rcases this with rfl | rfl | rfl | rfl <;> decide
section Rg
variable {s m p B : Nat} {M Mc Mt X Y : FM} {K : Kr} {S : Sr} {soft : Nat → Int32} {num : Nat → Int64}
theorem X33_isOn {C c : Nat} (T : Ty M) (n : fm_is M 77 77 C = true) (V : VKc C M K) (hc : c < 8) :
    HX33_isOn C (nI c) M ∧ GX33_isOn C (nI c) M = (bz (∃ s', 1 ≤ s' ∧ s' < 32 ∧ cnd (K.2.1 &&& K.2.2.2.2.1 c) (K.2.2.2.2.2 c) K.2.2.2.1 s'), M) := by
  obtain ⟨v1, v2, v3, v4, v5, v6⟩ := V
  obtain ⟨b, ⟨e1, e2⟩, e3⟩ := X33_best T n (K.2.1 &&& K.2.2.2.2.1 c) (K.2.2.2.2.2 c)
  unfold HX33_isOn HX33_isOn_0 GX33_isOn GX33_isOn_0 GX33_isOn_29
  dsimp only
  rw [o_cl (by omega), v2, v5 c hc, v6 c hc, e2]
  refine ⟨⟨in_nI (tL_225 T.1 n) hc (by decide), in_nI (tL_226 T.1 n) hc (by decide), e1, trivial⟩, ?_⟩
  have b32 : b < 32 := by rcases e3 with ⟨a1, _⟩ | ⟨_, a2, _⟩ <;> omega
  have tr : ∀ s', s' < 32 → (cnd (K.2.1 &&& K.2.2.2.2.1 c) (K.2.2.2.2.2 c) (M.1 3 (M.2.2 224 C 0)) s' ↔ cnd (K.2.1 &&& K.2.2.2.2.1 c) (K.2.2.2.2.2 c) K.2.2.2.1 s') := fun s' hs => by
    unfold cnd
    rw [v4 s' hs]
  rw [show (nI b, M).1 = nI b from rfl, show (nI b, M).2 = M from rfl]
  rcases e3 with ⟨a1, a2⟩ | ⟨a1, a2, a3, a4⟩
  · rw [fi_pos ((nle0 (n := b) (by omega)).mpr (by omega)), bz_f (fun ⟨s', x1, x2, x3⟩ => a2 s' x1 x2 ((tr s' x2).mpr x3))]
  · rw [fi_neg (fun y => by have := (nle0 (n := b) (by omega)).mp y; omega), bz_t ⟨b, a1, a2, (tr b a2).mp a3⟩]
theorem rel_gline (T : Ty Mc) (W : Wf Mc) (Tt : Ty Mt) (Wt : Wf Mt) (h : RelG s m p B Mc Mt) {q : Nat} (hq : q < p) {l : Int32} (hl : l = Int32.ofInt 3 ∨ l = Int32.ofInt 7 ∨ l = Int32.ofInt 9 ∨ l = Int32.ofInt 11) :
    ∃ P : Prop, (HX30_line s (nI q) l Mc ∧ GX30_line s (nI q) l Mc = (bz P, Mc)) ∧ (HX96_line m (nI q) l Mt ∧ GX96_line m (nI q) l Mt = (bz P, fm_sI Mt 394 m 0 (Int32.ofInt 0))) := by
  obtain ⟨soft, num, K, S, ns, nm, Vc, Vt, i1, i4, i0, iK, iS, i10⟩ := h
  obtain ⟨v1, v2, v3, v4, v5⟩ := Vc
  have q4 : q < 4 := by omega
  have nt := tN_240 T.1 ns
  have nC := tN_241 T.1 ns
  have Tn := ty_94 (m := m) Tt (Int32.ofInt 0)
  have nn : fm_is (fm_sI Mt 394 m 0 (Int32.ofInt 0)) 99 99 m = true := nm
  have Vn := vut_94 Vt (Int32.ofInt 0)
  have p94 : (fm_sI Mt 394 m 0 (Int32.ofInt 0)).1 394 m 0 ≤ 0 := by rw [rI, if_pos ⟨rfl, rfl, rfl⟩]; decide
  have g0 : ¬ nI q < 0 := nI0 (by omega)
  have gp : ¬ Mt.1 395 m 0 ≤ nI q := fun y => by
    rw [Vt.1.1, le_ti, ti, ti, ui_nI, ui_nI, if_pos (by omega), if_pos (by omega)] at y
    omega
  obtain ⟨h1, h2, h3⟩ := n_2h q4
  -- the twin, as far as the line
  have tw : ∀ P : Prop, HX96_line_41 m (nI q) l m (Int32.ofInt 0) Mt → GX96_line_41 m (nI q) l m (Int32.ofInt 0) Mt = (bz P, fm_sI Mt 394 m 0 (Int32.ofInt 0)) → (HX96_line m (nI q) l Mt ∧ GX96_line m (nI q) l Mt = (bz P, fm_sI Mt 394 m 0 (Int32.ofInt 0))) := fun P a b => by
    unfold HX96_line HX96_line_0 GX96_line GX96_line_0 HX96_line_36 HX96_line_40 GX96_line_40
    rw [fi_neg g0, fi_neg gp]
    refine ⟨⟨fun y => absurd y g0, fun _ => ⟨fun y => absurd y gp, fun _ => ⟨fun _ => a, fun w3 => ⟨fun _ => a, fun w7 => ⟨fun _ => a, fun w9 => ⟨fun _ => a, fun w11 => ?_⟩⟩⟩⟩⟩⟩, ?_⟩
    · rcases hl with e | e | e | e
      · exact absurd e w3
      · exact absurd e w7
      · exact absurd e w9
      · exact absurd e w11
    · rw [b]
      rcases hl with e | e | e | e
      · rw [fi_pos e]
      · rw [e, fi_neg (show ¬ Int32.ofInt 7 = Int32.ofInt 3 by decide), fi_pos rfl]
      · rw [e, fi_neg (show ¬ Int32.ofInt 9 = Int32.ofInt 3 by decide), fi_neg (show ¬ Int32.ofInt 9 = Int32.ofInt 7 by decide), fi_pos rfl]
      · rw [e, fi_neg (show ¬ Int32.ofInt 11 = Int32.ofInt 3 by decide), fi_neg (show ¬ Int32.ofInt 11 = Int32.ofInt 7 by decide), fi_neg (show ¬ Int32.ofInt 11 = Int32.ofInt 9 by decide), fi_pos rfl]
  have i396 : fm_in (fm_sI Mt 394 m 0 (Int32.ofInt 0)) (Mt.2.2 396 m 0) (nI q) = true := in_nI (tL_396 Tt.1 nm) q4 (by decide)
  have i397 : fm_in (fm_sI Mt 394 m 0 (Int32.ofInt 0)) (Mt.2.2 397 m 0) (nI q) = true := in_nI (tL_397 Tt.1 nm) q4 (by decide)
  have above : ∀ c, c < 8 → HX96_above m (nI c) (fm_sI Mt 394 m 0 (Int32.ofInt 0)) ∧ GX96_above m (nI c) (fm_sI Mt 394 m 0 (Int32.ofInt 0)) = (bz (∃ s', 1 ≤ s' ∧ s' < 32 ∧ cnd (K.2.1 &&& K.2.2.2.2.1 c) (K.2.2.2.2.2 c) K.2.2.2.1 s'), fm_sI Mt 394 m 0 (Int32.ofInt 0)) := fun c hc => by
    obtain ⟨a, b⟩ := X96_above Tn nn hc
    refine ⟨a, b.trans ?_⟩
    obtain ⟨k1, k2, k3, k4, k5, k6⟩ := Vn.2.1
    rw [bz_c]
    constructor
    · rintro ⟨s', x1, x2, x3, x4, x5⟩
      rw [k2 s' x2, bz_0, Classical.not_not] at x3
      rw [k5 c hc] at x4
      rw [k6 c hc, k4 s' x2] at x5
      exact ⟨s', x1, x2, by rw [ib_and, x3, x4]; rfl, x5⟩
    · rintro ⟨s', x1, x2, x3, x4⟩
      rw [ib_and, Bool.and_eq_true] at x3
      exact ⟨s', x1, x2, by rw [k2 s' x2, bz_0, Classical.not_not]; exact x3.1, by rw [k5 c hc]; exact x3.2, by rw [k6 c hc, k4 s' x2]; exact x4⟩
  have on : ∀ c, c < 8 → HX33_isOn (Mc.2.2 241 s 0) (nI c) Mc ∧ GX33_isOn (Mc.2.2 241 s 0) (nI c) Mc = (bz (∃ s', 1 ≤ s' ∧ s' < 32 ∧ cnd (K.2.1 &&& K.2.2.2.2.1 c) (K.2.2.2.2.2 c) K.2.2.2.1 s'), Mc) := fun c hc => X33_isOn T nC v2 hc
  have hc41 : ∀ P : Prop, P → ((fm_sI Mt 394 m 0 (Int32.ofInt 0)).1 394 m 0 ≤ 0 → P) ∧ (¬ (fm_sI Mt 394 m 0 (Int32.ofInt 0)).1 394 m 0 ≤ 0 → True) := fun P h => ⟨fun _ => h, fun _ => trivial⟩
  rcases hl with rfl | rfl | rfl | rfl
  · refine ⟨soft q = 1, ⟨?_, ?_⟩, tw _ ?_ ?_⟩
    · exact ⟨fun _ => ⟨in_nI (tL_245 T.1 nt) q4 (by decide), trivial⟩, fun y => absurd rfl y⟩
    · unfold GX30_line GX30_line_0 GX30_line_54
      dsimp only
      rw [fi_pos rfl, o_cl (by omega), v1.2.1 q q4, fi_pr]
      rfl
    · exact hc41 _ ⟨fun _ => ⟨i396, trivial⟩, fun y => absurd rfl y⟩
    · unfold GX96_line_41 GX96_line_116
      dsimp only
      rw [fi_pos p94, fi_pos rfl, o_cl (by omega)]
      have e : (fm_sI Mt 394 m 0 (Int32.ofInt 0)).1 3 (Mt.2.2 396 m 0) q = soft q := Vn.1.2.1 q q4
      refine Prod.ext ?_ rfl
      show (fm_sI Mt 394 m 0 (Int32.ofInt 0)).1 3 (Mt.2.2 396 m 0) q = bz (soft q = 1)
      rw [e]
      rcases i0 q q4 with z | z
      · rw [z, bz_f (by decide)]; rfl
      · rw [z, bz_t rfl]; rfl
  · refine ⟨¬ ul (num 4) < ul (num q), ⟨?_, ?_⟩, tw _ ?_ ?_⟩
    · exact ⟨fun y => absurd y (by decide), fun _ => ⟨fun _ => ⟨⟨in_nI (tL_246 T.1 nt) (by omega) (by decide), trivial⟩, trivial⟩, fun y => absurd rfl y⟩⟩
    · unfold GX30_line GX30_line_0 GX32_isDue GX32_isDue_0 GX32_isDue_29
      dsimp only
      rw [fi_neg (show ¬ Int32.ofInt 7 = Int32.ofInt 3 by decide), fi_pos rfl, o_cl (by omega), show (Int32.ofInt 4).toNatClampNeg = 4 from rfl, v1.2.2 4 (by decide), v1.2.2 q (by omega)]
      have c : lg_cmp (num 4 ^^^ Int64.ofInt (-9223372036854775808)) (num q ^^^ Int64.ofInt (-9223372036854775808)) < 0 ↔ ul (num 4) < ul (num q) := by
        rw [cl_lt, xor_tl, xor_tl]
        omega
      by_cases y : ul (num 4) < ul (num q)
      · rw [fi_pos (c.mpr y), bz_f (fun w => w y)]
      · rw [fi_neg (fun w => y (c.mp w)), bz_t y]
    · exact hc41 _ ⟨fun y => absurd y (by decide), fun _ => ⟨fun _ => ⟨i397, trivial⟩, fun y => absurd rfl y⟩⟩
    · unfold GX96_line_41 GX96_line_116
      dsimp only
      rw [fi_pos p94, fi_neg (show ¬ Int32.ofInt 7 = Int32.ofInt 3 by decide), fi_pos rfl, o_cl (by omega), X96_isLess]
      dsimp only
      have e4 : (fm_sI Mt 394 m 0 (Int32.ofInt 0)).2.1 398 m 0 = num 4 := by
        have := Vn.1.2.2 4 (by decide)
        unfold tNm at this
        rw [if_pos rfl] at this
        exact this
      have eq : (fm_sI Mt 394 m 0 (Int32.ofInt 0)).2.1 3 (Mt.2.2 397 m 0) q = num q := by
        have := Vn.1.2.2 q (by omega)
        unfold tNm at this
        rw [if_neg (by omega)] at this
        exact this
      rw [e4, show (fm_sI Mt 394 m 0 (Int32.ofInt 0)).2.1 3 ((fm_sI Mt 394 m 0 (Int32.ofInt 0)).2.2 397 m 0) q = num q from eq, fi_bz]
      by_cases y : ul (num 4) < ul (num q)
      · rw [fi_pos y, bz_f (fun w => w y)]
      · rw [fi_neg y, bz_t y]
  · refine ⟨(∃ s', 1 ≤ s' ∧ s' < 32 ∧ cnd (K.2.1 &&& K.2.2.2.2.1 (2 * q + 1)) (K.2.2.2.2.2 (2 * q + 1)) K.2.2.2.1 s'), ⟨?_, ?_⟩, tw _ ?_ ?_⟩
    · refine ⟨fun y => absurd y (by decide), fun _ => ⟨fun y => absurd y (by decide), fun _ => ⟨fun _ => ?_, fun y => absurd rfl y⟩⟩⟩
      dsimp only
      rw [h1, h2]
      exact ⟨(on (2 * q + 1) (by omega)).1, trivial⟩
    · unfold GX30_line GX30_line_0
      dsimp only
      rw [fi_neg (show ¬ Int32.ofInt 9 = Int32.ofInt 3 by decide), fi_neg (show ¬ Int32.ofInt 9 = Int32.ofInt 7 by decide), fi_pos rfl, h1, h2, (on (2 * q + 1) (by omega)).2]
    · refine hc41 _ ⟨fun y => absurd y (by decide), fun _ => ⟨fun y => absurd y (by decide), fun _ => ⟨fun _ => ?_, fun y => absurd rfl y⟩⟩⟩
      unfold HX96_line_112
      rw [h1, h2]
      exact ⟨(above (2 * q + 1) (by omega)).1, trivial⟩
    · unfold GX96_line_41 GX96_line_112 GX96_line_116
      dsimp only
      rw [fi_pos p94, fi_neg (show ¬ Int32.ofInt 9 = Int32.ofInt 3 by decide), fi_neg (show ¬ Int32.ofInt 9 = Int32.ofInt 7 by decide), fi_pos rfl, h1, h2, (above (2 * q + 1) (by omega)).2]
  · refine ⟨(∃ s', 1 ≤ s' ∧ s' < 32 ∧ cnd (K.2.1 &&& K.2.2.2.2.1 (2 * q)) (K.2.2.2.2.2 (2 * q)) K.2.2.2.1 s'), ⟨?_, ?_⟩, tw _ ?_ ?_⟩
    · refine ⟨fun y => absurd y (by decide), fun _ => ⟨fun y => absurd y (by decide), fun _ => ⟨fun y => absurd y (by decide), fun _ => ?_⟩⟩⟩
      dsimp only
      rw [h1]
      exact ⟨(on (2 * q) (by omega)).1, trivial⟩
    · unfold GX30_line GX30_line_0
      dsimp only
      rw [fi_neg (show ¬ Int32.ofInt 11 = Int32.ofInt 3 by decide), fi_neg (show ¬ Int32.ofInt 11 = Int32.ofInt 7 by decide), fi_neg (show ¬ Int32.ofInt 11 = Int32.ofInt 9 by decide), h1, (on (2 * q) (by omega)).2]
    · refine hc41 _ ⟨fun y => absurd y (by decide), fun _ => ⟨fun y => absurd y (by decide), fun _ => ⟨fun y => absurd y (by decide), fun _ => ?_⟩⟩⟩
      unfold HX96_line_112
      rw [h1, h3]
      exact ⟨(above (2 * q) (by omega)).1, trivial⟩
    · unfold GX96_line_41 GX96_line_112 GX96_line_116
      dsimp only
      rw [fi_pos p94, fi_neg (show ¬ Int32.ofInt 11 = Int32.ofInt 3 by decide), fi_neg (show ¬ Int32.ofInt 11 = Int32.ofInt 7 by decide), fi_neg (show ¬ Int32.ofInt 11 = Int32.ofInt 9 by decide), h1, h3, (above (2 * q) (by omega)).2]
/-- nothing else of the twin's is asked but what it holds -/
theorem relG_94 (h : RelG s m p B Mc Mt) (v : Int32) : RelG s m p B Mc (fm_sI Mt 394 m 0 v) := by
  obtain ⟨soft, num, K, S, ns, nm, Vc, Vt, I⟩ := h
  exact ⟨soft, num, K, S, ns, nm, Vc, vut_94 Vt v, I⟩
/-- how much room the line has -/
theorem rel_groom (h : RelG s m p B Mc Mt) : ∃ v, GX31_room (Mc.2.2 242 s 0) Mc = (v, Mc) ∧ GX96_room m Mt = (v, fm_sI Mt 394 m 0 (Int32.ofInt 0)) := by
  obtain ⟨soft, num, K, S, ns, nm, Vc, Vt, I⟩ := h
  have e1 : Mc.1 236 (Mc.2.2 242 s 0) 0 = Mt.1 407 m 0 := Vc.2.2.2.1.2.2.2.1.trans Vt.2.2.2.2.2.2.1.symm
  have e2 : Mc.1 232 (Mc.2.2 242 s 0) 0 = Mt.1 411 m 0 := Vc.2.2.2.1.2.1.trans Vt.2.2.2.2.1.symm
  refine ⟨fi (Mt.1 407 m 0 = 0) (Int32.ofInt 1) (Int32.ofInt 16) - Mt.1 411 m 0, ?_, ?_⟩
  · unfold GX31_room GX31_room_0 GX31_room_13
    rw [e1, e2]
    by_cases z : Mt.1 407 m 0 = 0
    · rw [fi_pos z, fi_pos z]
    · rw [fi_neg z, fi_neg z]
  · unfold GX96_room GX96_room_0 GX96_space GX96_space_0 GX96_space_13
    dsimp only
    rw [rIf (by decide), rIf (by decide)]
    by_cases z : Mt.1 407 m 0 = 0
    · rw [fi_pos z, fi_pos z]
    · rw [fi_neg z, fi_neg z]
/-- the time, one more -/
theorem rel_gpass (T : Ty Mc) (W : Wf Mc) (h : RelG s m p B Mc Mt) : Mc.2.1 3 (Mc.2.2 246 (Mc.2.2 240 s 0) 0) 4 = Mt.2.1 398 m 0 ∧
    RelG s m p B (fm_sL Mc 3 (Mc.2.2 246 (Mc.2.2 240 s 0) 0) 4 (Mc.2.1 3 (Mc.2.2 246 (Mc.2.2 240 s 0) 0) 4 + Int64.ofInt 1)) (GX96_pass m (Int64.ofInt 1) Mt) := by
  obtain ⟨soft, num, K, S, ns, nm, Vc, Vt, I⟩ := h
  have nt := tN_240 T.1 ns
  have nC := tN_241 T.1 ns
  have nL := tN_242 T.1 ns
  obtain ⟨v1, v2, v3, v4, v5⟩ := Vc
  have e4 : Mt.2.1 398 m 0 = num 4 := by
    have := Vt.1.2.2 4 (by decide)
    unfold tNm at this
    rw [if_pos rfl] at this
    exact this
  have c4 : Mc.2.1 3 (Mc.2.2 246 (Mc.2.2 240 s 0) 0) 4 = num 4 := v1.2.2 4 (by decide)
  refine ⟨c4.trans e4.symm, soft, updL num 4 (num 4 + Int64.ofInt 1), K, S, ns, nm, ?_, ?_, I⟩
  · have F : FrM (Mc.2.2 240 s 0) Mc (fm_sL Mc 3 (Mc.2.2 246 (Mc.2.2 240 s 0) 0) 4 (Mc.2.1 3 (Mc.2.2 246 (Mc.2.2 240 s 0) 0) 4 + Int64.ofInt 1)) := ⟨rfl, fun _ _ _ _ => rfl, fun f b i h => by rw [rL, if_neg (fun q => h ⟨q.1, q.2.1⟩)]⟩
    refine ⟨⟨v1.1, v1.2.1, fun j hj => ?_⟩, frM_k T W nt nC nL F v2, v3, frM_s T W nt nC nL F v4, v5⟩
    show (fm_sL Mc 3 (Mc.2.2 246 (Mc.2.2 240 s 0) 0) 4 _).2.1 3 (Mc.2.2 246 (Mc.2.2 240 s 0) 0) j = updL num 4 _ j
    unfold updL
    rw [rL, c4]
    by_cases e : j = 4
    · rw [if_pos ⟨rfl, rfl, e⟩, if_pos e]
    · rw [if_neg (fun q => e q.2.2), if_neg e]
      exact v1.2.2 j hj
  · obtain ⟨w1, w2, w3⟩ := vut_94 Vt (Int32.ofInt 0)
    have eP : GX96_pass m (Int64.ofInt 1) Mt = fm_sL (fm_sI Mt 394 m 0 (Int32.ofInt 0)) 398 m 0 (num 4 + Int64.ofInt 1) := by
      unfold GX96_pass GX96_pass_0
      dsimp only
      rw [show (fm_sI Mt 394 m 0 (Int32.ofInt 0)).2.1 398 m 0 = num 4 from e4]
    rw [eP]
    refine ⟨⟨w1.1, w1.2.1, fun j hj => ?_⟩, vkt_tr (M := fm_sI Mt 394 m 0 (Int32.ofInt 0)) rfl (fun _ _ _ => rfl) w2, vst_tr (M := fm_sI Mt 394 m 0 (Int32.ofInt 0)) rfl (fun _ _ _ => rfl) (fun _ _ _ => rfl) (by rw [rL, if_neg (by omega)]) w3⟩
    have := w1.2.2 j hj
    unfold tNm at this ⊢
    unfold updL
    by_cases e : j = 4
    · rw [if_pos e, rL, if_pos ⟨rfl, rfl, rfl⟩, if_pos e]
    · rw [if_neg e] at this ⊢
      rw [rL, if_neg (by omega), if_neg e]
      exact this
/-- what went out -/
theorem rel_gout (T : Ty Mc) (Tt : Ty Mt) (h : RelG s m p B Mc Mt) (hB : B < 2147483000) (k : Int64) :
    Mc.2.1 234 (Mc.2.2 242 s 0) 0 = Mt.2.1 413 m 0 ∧ ∃ v, (HX31_outAt (Mc.2.2 242 s 0) k Mc ∧ GX31_outAt (Mc.2.2 242 s 0) k Mc = (v, Mc)) ∧ (HX96_out m k Mt ∧ GX96_out m k Mt = (v, fm_sI Mt 394 m 0 (Int32.ofInt 0))) := by
  obtain ⟨soft, num, K, S, ns, nm, Vc, Vt, I⟩ := h
  have nL := tN_242 T.1 ns
  have VS := Vc.2.2.2.1
  have hs : S.2.2.2.2.2.2 ≤ B := I.2.2.2.2.1.2.2.2.2
  have e1 : Mc.2.1 234 (Mc.2.2 242 s 0) 0 = lN S.2.2.2.2.2.2 := VS.2.2.2.2.2.2.2
  have e2 : Mt.2.1 413 m 0 = lN S.2.2.2.2.2.2 := Vt.2.2.2.2.2.2.2.2.2.2
  refine ⟨e1.trans e2.symm, ?_⟩
  unfold HX31_outAt HX31_outAt_0 GX31_outAt GX31_outAt_0 GX31_outAt_28 GX31_outAt_47 HX96_out HX96_out_0 GX96_out GX96_out_0 GX96_out_33 GX96_out_48
  dsimp only
  rw [e1, show (fm_sI Mt 394 m 0 (Int32.ofInt 0)).2.1 413 m 0 = lN S.2.2.2.2.2.2 from e2]
  by_cases c1 : lg_cmp k (Int64.ofInt 0) < 0
  · rw [fi_pos c1, fi_pos c1]
    exact ⟨_, ⟨⟨fun _ => trivial, fun y => absurd c1 y⟩, rfl⟩, ⟨fun _ => trivial, fun y => absurd c1 y⟩, rfl⟩
  rw [fi_neg c1, fi_neg c1]
  by_cases c2 : 0 ≤ lg_cmp k (lN S.2.2.2.2.2.2)
  · rw [fi_pos c2, fi_pos c2]
    exact ⟨_, ⟨⟨fun y => absurd y c1, fun _ => ⟨fun _ => trivial, fun y => absurd c2 y⟩⟩, rfl⟩, ⟨fun y => absurd y c1, fun _ => ⟨fun _ => trivial, fun y => absurd c2 y⟩⟩, rfl⟩
  rw [fi_neg c2, fi_neg c2]
  have k0 : ul k < 2147483648 ∧ k = lN (ul k) := by
    refine ⟨?_, (lN_ul k).symm⟩
    have a1 : ¬ k.toInt < 0 := fun y => c1 (by rw [cl_lt]; exact y)
    have a2 : k.toInt < S.2.2.2.2.2.2 := by
      have : ¬ (lN S.2.2.2.2.2.2).toInt ≤ k.toInt := fun y => c2 (by rw [cl_ge]; exact y)
      rw [tl_o (by omega)] at this
      omega
    have hk := ul_lt k
    rw [tl] at a1 a2
    split at a1 <;> omega
  have ei : (k - k / Int64.ofInt 4096 * Int64.ofInt 4096).toInt32 = nI (ul k % 4096) := by
    rw [k0.2, show Int64.ofInt 4096 = lN 4096 from rfl, o_rest k0.1 (by decide), o_32 (by omega), ← k0.2]
  have m4 : ul k % 4096 < 4096 := Nat.mod_lt _ (by decide)
  by_cases c3 : 0 ≤ lg_cmp k (lN S.2.2.2.2.2.2 - Int64.ofInt 4096)
  · rw [fi_pos c3, fi_pos c3, ei, o_cl (by omega)]
    refine ⟨S.2.2.2.2.2.1 (ul k % 4096), ⟨⟨fun y => absurd y c1, fun _ => ⟨fun y => absurd y c2, fun _ => ⟨fun _ => ⟨in_nI (tL_233 T.1 nL) m4 (by decide), trivial⟩, fun _ => trivial⟩⟩⟩, ?_⟩, ⟨fun y => absurd y c1, fun _ => ⟨fun y => absurd y c2, fun _ => ⟨fun _ => ⟨in_nI (tL_412 Tt.1 nm) m4 (by decide), trivial⟩, fun _ => trivial⟩⟩⟩, ?_⟩
    · rw [VS.2.2.2.2.2.2.1 _ m4]
    · refine Prod.ext ?_ rfl
      exact Vt.2.2.2.2.2.2.2.2.2.1 _ m4
  · rw [fi_neg c3, fi_neg c3]
    exact ⟨_, ⟨⟨fun y => absurd y c1, fun _ => ⟨fun y => absurd y c2, fun _ => ⟨fun y => absurd y c3, fun _ => trivial⟩⟩⟩, rfl⟩, ⟨fun y => absurd y c1, fun _ => ⟨fun y => absurd y c2, fun _ => ⟨fun y => absurd y c3, fun _ => trivial⟩⟩⟩, rfl⟩
end Rg
