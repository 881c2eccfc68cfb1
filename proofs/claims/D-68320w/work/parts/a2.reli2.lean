/-! component's integers and the twin's core: jump, finish, what is wanted, registers -/
set_option maxRecDepth 100000
section RelI
variable {a c : Nat} {Mc Mt X Y : FM} {o : Option Wt}
theorem coI_ro (T : Ty Mc) (h : CoI a Mc) (rX : Ro a Mc X) : CoI a X := by
  obtain ⟨n, K, D, O⟩ := h
  have ha : Mc.2.2 0 a 0 = 63 := by have := fm_isd n; omega
  have hc : Mc.2.2 172 a 0 ≠ a := nis (tN_172 T.1 n) n (by decide)
  refine ⟨ro_is rX n, ro_kp rX ha hc K, ?_, ro_od rX O⟩
  rw [rX.2.1 172 a 0 (by omega)]
  exact ro_dt rX hc D
theorem relI_n (n1 : CoI a X) (n2 : fm_is Y 94 94 c = true) (h1 : ∀ j, X.2.1 3 (rgI a X) j = Y.2.1 3 (Y.2.2 346 c 0) j) (h2 : X.2.1 179 (X.2.2 171 a 0) 0 = Y.2.1 347 c 0) (h3 : X.2.2 174 a 0 = 0) (h4 : Y.1 353 c 0 = Int32.ofInt (-1)) : RelI a c X Y none :=
  ⟨n1, n2, h1, h2, fun _ => ⟨h3, h4⟩, fun q e => by cases e⟩
theorem relI_tags (T : Ty Mc) (n : fm_is Mc 63 63 a = true) : Mc.2.2 0 a 0 = 63 ∧ Mc.2.2 0 (Mc.2.2 171 a 0) 0 = 64 ∧ Mc.2.2 0 (rgI a Mc) 0 = 902 ∧ Mc.2.2 0 (Mc.2.2 175 a 0) 0 = 902 := by
  have nr := tN_171 T.1 n
  have h1 := fm_isd n
  have h2 := fm_isd nr
  have h3 := fm_isd (tN_178 T.1 nr)
  have h4 := fm_isd (tN_175 T.1 n)
  unfold rgI
  refine ⟨?_, ?_, ?_, ?_⟩ <;> omega
theorem rel_ijump (T : Ty Mc) (h : RelI a c Mc Mt o) (v : Int64) : RelI a c (GX47_jump a v Mc) (GX98_jump c v Mt) none := by
  obtain ⟨C, nt, hR, hP, -, -⟩ := h
  obtain ⟨t1, t2, t3, t4⟩ := relI_tags T C.1
  have e22 : ∀ f b j, ¬ (f = 174 ∧ b = a) → (GX47_jump a v Mc).2.2 f b j = Mc.2.2 f b j := fun f b j z => by
    unfold GX47_jump GX47_jump_0
    dsimp only
    rw [rR, if_neg (fun q => z ⟨q.1, q.2.1⟩)]
    rfl
  have e21 : ∀ f b j, ¬ (f = 179 ∧ b = Mc.2.2 171 a 0) → (GX47_jump a v Mc).2.1 f b j = Mc.2.1 f b j := fun f b j z => by
    unfold GX47_jump GX47_jump_0
    show (fm_sL Mc 179 (Mc.2.2 171 a 0) 0 _).2.1 f b j = _
    rw [rL, if_neg (fun q => z ⟨q.1, q.2.1⟩)]
  have eg : rgI a (GX47_jump a v Mc) = rgI a Mc := by
    unfold rgI
    rw [e22 171 a 0 (by omega), e22 178 _ 0 (by omega)]
  refine relI_n (coI_ro T C ⟨fun _ _ _ _ => rfl, e22, fun f b j z => e21 f b j (fun q => by rw [q.2, t2] at z; cases z)⟩) nt (fun j => ?_) ?_ ?_ ?_
  · rw [eg, e21 3 _ j (by omega)]
    exact hR j
  · rw [e22 171 a 0 (by omega)]
    have k1 : (GX47_jump a v Mc).2.1 179 (Mc.2.2 171 a 0) 0 = v &&& Int64.ofInt (-2) := by
      unfold GX47_jump GX47_jump_0
      show (fm_sL Mc 179 (Mc.2.2 171 a 0) 0 _).2.1 179 (Mc.2.2 171 a 0) 0 = _
      rw [rL, if_pos ⟨rfl, rfl, rfl⟩]
    have k2 : (GX98_jump c v Mt).2.1 347 c 0 = v - (v &&& Int64.ofInt 1) := by
      unfold GX98_jump GX98_jump_0
      show (fm_sL (fm_sI Mt 345 c 0 _) 347 c 0 _).2.1 347 c 0 = _
      rw [rL, if_pos ⟨rfl, rfl, rfl⟩]
    rw [k1, k2]
    exact and_m2 v
  · unfold GX47_jump GX47_jump_0
    simp [rR]
  · unfold GX98_jump GX98_jump_0
    simp [rI]
/-- the five numbers -/
def wq (q : Wt) : Nat → Int64
  | 0 => q.2.1
  | 1 => q.2.2.1
  | 2 => q.2.2.2.1
  | 3 => q.2.2.2.2.1
  | _ => q.2.2.2.2.2.toInt64
theorem five {k : Nat} (hk : k < 5) : k = 0 ∨ k = 1 ∨ k = 2 ∨ k = 3 ∨ k = 4 := by omega
theorem rel_want {q : Wt} (T : Ty Mc) (W : Wf Mc) (Tt : Ty Mt) (h : RelI a c Mc Mt (some q)) {k : Nat} (hk : k < 5) :
    (HX47_wanted a (nI k) Mc ∧ GX47_wanted a (nI k) Mc = (wq q k, Mc)) ∧ (HX98_wanted c (nI k) Mt ∧ GX98_wanted c (nI k) Mt = (wq q k, fm_sI Mt 345 c 0 (Int32.ofInt 0))) := by
  obtain ⟨C, nt, -, -, -, hq⟩ := h
  obtain ⟨u1, u2, u3, u4, u5, u6⟩ := hq q rfl
  have z0 : ¬ Mc.2.2 174 a 0 = 0 := wf_n0 W (fm_ist rfl u1)
  have e5 : Mc.2.1 3 (Mc.2.2 175 a 0) k = wq q k := by
    rcases five hk with rfl | rfl | rfl | rfl | rfl
    · exact u5.1
    · exact u5.2.1
    · exact u5.2.2.1
    · exact u5.2.2.2.1
    · exact u5.2.2.2.2
  have e6 : Mt.2.1 3 (Mt.2.2 355 c 0) k = wq q k := by
    rcases five hk with rfl | rfl | rfl | rfl | rfl
    · exact u6.1
    · exact u6.2.1
    · exact u6.2.2.1
    · exact u6.2.2.2.1
    · exact u6.2.2.2.2
  have in1 := in_nI (tL_175 T.1 C.1) hk (by decide)
  have in2 := in_nI (tL_355 Tt.1 nt) hk (by decide)
  have n353 : ¬ Mt.1 353 c 0 = Int32.ofInt (-1) := by
    rw [u3]
    rcases Uk_k u2 with e | e | e | e | e <;> rw [e] <;> decide
  have c353 : ¬ (fm_sI Mt 345 c 0 (Int32.ofInt 0)).1 353 c 0 = Int32.ofInt (-1) := by rw [rIf (by decide)]; exact n353
  have k0 : ¬ nI k < 0 := fun z => by have := (nlt (n := k) (by omega) 0 (by decide)).mp z; omega
  have k4 : nI k ≤ Int32.ofInt 4 := (nle (n := k) (by omega) 4 (by decide)).mpr (by omega)
  refine ⟨⟨⟨fun z => absurd z z0, fun _ => ⟨in1, trivial⟩⟩, ?_⟩, ⟨fun z => absurd z c353, fun _ => ⟨fun z => absurd z k0, fun _ => ⟨fun _ => ⟨in2, trivial⟩, fun z => absurd k4 z⟩⟩⟩, ?_⟩
  · unfold GX47_wanted GX47_wanted_0 GX47_wanted_19
    rw [fi_neg z0, nI_clamp (by omega)]
    exact Prod.ext e5 rfl
  · unfold GX98_wanted GX98_wanted_0 GX98_wanted_22 GX98_wanted_34
    dsimp only
    rw [fi_neg c353, fi_neg k0, fi_pos k4, nI_clamp (by omega)]
    exact Prod.ext e6 rfl
/-- what is written beside: nothing that counts -/
theorem relI_t (h : RelI a c Mc Mt o) (e2 : Y.2.2 = Mt.2.2) (e1 : ∀ f, f ≠ 345 → Y.1 f c 0 = Mt.1 f c 0) (e3 : Y.2.1 = Mt.2.1) : RelI a c Mc Y o := by
  obtain ⟨C, nt, hR, hP, h0, hq⟩ := h
  unfold RelI WyI fm_is
  rw [e2, e3, e1 353 (by decide), e1 354 (by decide)]
  exact ⟨C, nt, hR, hP, h0, hq⟩
theorem cput_1 {r dk : Nat} {x : Int64} {M : FM} : (cput r dk x M).1 = M.1 ∧ (cput r dk x M).2.2 = M.2.2 ∧ ∀ f b j, (cput r dk x M).2.1 f b j = if f = 3 ∧ b = M.2.2 178 r 0 ∧ j = dk ∧ 0 < dk then x else M.2.1 f b j := by
  unfold cput
  by_cases h : dk = 0
  · rw [if_pos h]
    exact ⟨rfl, rfl, fun f b j => by rw [if_neg (by omega)]⟩
  · rw [if_neg h]
    refine ⟨rfl, rfl, fun f b j => ?_⟩
    rw [rL]
    by_cases z : f = 3 ∧ b = M.2.2 178 r 0 ∧ j = dk
    · rw [if_pos z, if_pos ⟨z.1, z.2.1, z.2.2, by omega⟩]
    · rw [if_neg z, if_neg (fun q => z ⟨q.1, q.2.1, q.2.2.1⟩)]
theorem tput_1 {r dk : Nat} {x : Int64} {M : FM} : (tput r dk x M).1 = M.1 ∧ (tput r dk x M).2.2 = M.2.2 ∧ ∀ f b j, (tput r dk x M).2.1 f b j = if f = 3 ∧ b = M.2.2 346 r 0 ∧ j = dk ∧ 0 < dk then x else M.2.1 f b j := by
  unfold tput
  by_cases h : dk = 0
  · rw [if_pos h]
    exact ⟨rfl, rfl, fun f b j => by rw [if_neg (by omega)]⟩
  · rw [if_neg h]
    refine ⟨rfl, rfl, fun f b j => ?_⟩
    rw [rL]
    by_cases z : f = 3 ∧ b = M.2.2 346 r 0 ∧ j = dk
    · rw [if_pos z, if_pos ⟨z.1, z.2.1, z.2.2, by omega⟩]
    · rw [if_neg z, if_neg (fun q => z ⟨q.1, q.2.1, q.2.2.1⟩)]
/-- both ends, with the same put into the same register -/
theorem relI_end {q : Wt} (T : Ty Mc) (Tt : Ty Mt) (Wt : Wf Mt) (h : RelI a c Mc Mt (some q)) {P Q : FM} (p1 : P.1 = Mc.1) (p2 : P.2.2 = Mc.2.2) (q1 : ∀ f b, f ≠ 345 → Q.1 f b = Mt.1 f b) (q2 : Q.2.2 = Mt.2.2) {dk : Nat} {x : Int64}
    (p3 : ∀ f b j, P.2.1 f b j = if f = 3 ∧ b = rgI a Mc ∧ j = dk ∧ 0 < dk then x else Mc.2.1 f b j) (q3 : ∀ f b j, Q.2.1 f b j = if f = 3 ∧ b = Mt.2.2 346 c 0 ∧ j = dk ∧ 0 < dk then x else Mt.2.1 f b j) : RelI a c (cend a P) (tend c Q) none := by
  obtain ⟨C, nt, hR, hP, -, hq⟩ := h
  obtain ⟨u1, u2, u3, u4, u5, u6⟩ := hq q rfl
  obtain ⟨t1, t2, t3, t4⟩ := relI_tags T C.1
  have e22 : ∀ f b j, ¬ (f = 174 ∧ b = a) → (cend a P).2.2 f b j = Mc.2.2 f b j := fun f b j z => by
    unfold cend
    show (fm_sR _ 174 a 0 0).2.2 f b j = _
    rw [rR, if_neg (fun q => z ⟨q.1, q.2.1⟩)]
    show P.2.2 f b j = _
    rw [p2]
  have e21 : ∀ f b j, ¬ (f = 179 ∧ b = Mc.2.2 171 a 0) → ¬ (f = 177 ∧ b = a) → (cend a P).2.1 f b j = P.2.1 f b j := fun f b j z y => by
    unfold cend
    rw [p2, rL, if_neg (fun q => y ⟨q.1, q.2.1⟩)]
    show (fm_sL P 179 (Mc.2.2 171 a 0) 0 _).2.1 f b j = _
    rw [rL, if_neg (fun q => z ⟨q.1, q.2.1⟩)]
  have eg : rgI a (cend a P) = rgI a Mc := by
    unfold rgI
    rw [e22 171 a 0 (by omega), e22 178 _ 0 (by omega)]
  have ro : Ro a Mc (cend a P) := ⟨fun f b j _ => by unfold cend; show P.1 f b j = _; rw [p1], e22, fun f b j z => by
    rw [e21 f b j (fun q => by rw [q.2, t2] at z; cases z) (fun q => by rw [q.2, t1] at z; cases z), p3, if_neg (fun q => by rw [q.2.1, t3] at z; cases z)]⟩
  refine relI_n (coI_ro T C ro) (by unfold fm_is at nt ⊢; have e : (tend c Q).2.2 = Mt.2.2 := q2; rw [e]; exact nt) (fun j => ?_) ?_ ?_ ?_
  · rw [eg, e21 3 _ j (by omega) (by omega), p3]
    show _ = Q.2.1 3 (Q.2.2 346 c 0) j
    rw [q2, q3]
    by_cases z : j = dk ∧ 0 < dk
    · rw [if_pos ⟨rfl, rfl, z⟩, if_pos ⟨rfl, rfl, z⟩]
    · rw [if_neg (fun y => z y.2.2), if_neg (fun y => z y.2.2)]
      exact hR j
  · rw [e22 171 a 0 (by omega)]
    have k1 : (cend a P).2.1 179 (Mc.2.2 171 a 0) 0 = Mc.2.1 179 (Mc.2.2 171 a 0) 0 + (Mc.1 176 a 0).toInt64 := by
      unfold cend
      rw [p2, p1, rL, if_neg (by omega)]
      show (fm_sL P 179 (Mc.2.2 171 a 0) 0 _).2.1 179 (Mc.2.2 171 a 0) 0 = _
      rw [rL, if_pos ⟨rfl, rfl, rfl⟩, p3, if_neg (by omega)]
    have k2 : (tend c Q).2.1 347 c 0 = Mt.2.1 347 c 0 + (Mt.1 354 c 0).toInt64 := by
      unfold tend
      show (fm_sL (fm_sL Q 347 c 0 _) 348 c 0 _).2.1 347 c 0 = _
      rw [rL, if_neg (by omega), rL, if_pos ⟨rfl, rfl, rfl⟩, q3, if_neg (by omega), q1 354 c (by decide)]
    rw [k1, k2, hP, u4]
  · unfold cend
    show (fm_sR _ 174 a 0 0).2.2 174 a 0 = _
    rw [rR, if_pos ⟨rfl, rfl, rfl⟩]
  · unfold tend
    rw [rI, if_pos ⟨rfl, rfl, rfl⟩]
theorem rel_ifin {q : Wt} (T : Ty Mc) (W : Wf Mc) (Tt : Ty Mt) (Wt : Wf Mt) (h : RelI a c Mc Mt (some q)) (g : Int32) (v : Int64) :
    ∃ X Y, (HX47_finish a g v Mc ∧ GX47_finish a g v Mc = (q.1, X)) ∧ (HX98_finish c g v Mt ∧ GX98_finish c g v Mt = (q.1, Y)) ∧ RelI a c X Y none := by
  have hh := h
  obtain ⟨C, nt, hR, hP, -, hq⟩ := h
  obtain ⟨u1, u2, u3, u4, u5, u6⟩ := hq q rfl
  have kq := Uk_k u2
  have uv := Uk_v u2
  obtain ⟨w1, w2, w3, dk, hk, w4⟩ := u2
  have nx : fm_is Mc 53 60 (Mc.2.2 149 (Mc.2.2 174 a 0) 0) = true := by
    rcases w1 with w | w
    · exact isT w.1 (by decide) (by decide)
    · exact isT w.1 (by decide) (by decide)
  have q1 : q.1 ≠ Int32.ofInt (-1) := by rcases kq with e | e | e | e | e <;> rw [e] <;> decide
  obtain ⟨a1, a2⟩ := X47_finish T (tN_171 T.1 C.1) rfl u1 nx (w3.trans w4) hk g v
  obtain ⟨b1, b2⟩ := X98_finish Tt nt u3 q1 u6.2.1 u6.2.2.2.2 w4 hk g v (lv := fin (Int32.ofInt 2) (Mc.1 159 (Mc.2.2 174 a 0) 0) (Mc.1 160 (Mc.2.2 174 a 0) 0) v) (fun e2 => by
    rcases w1 with ⟨w, x1, x2, ⟨_, y1, y2⟩ | ⟨y, _⟩ | ⟨y, _⟩ | y⟩ | ⟨w, y | y⟩
    · exact t_lv v y1 y2 (by rw [← x1]; exact u6.2.1) (by rw [← x2]; exact u6.2.2.2.1)
    all_goals (rw [e2] at y; exact absurd y (by decide)))
  refine ⟨_, _, ⟨a1, a2.trans (Prod.ext w2 rfl)⟩, ⟨b1, b2⟩, ?_⟩
  have k345 : ∀ f b, f ≠ 345 → (fm_sI Mt 345 c 0 (Int32.ofInt 0)).1 f b = Mt.1 f b := fun f b z => funext fun j => by rw [rI, if_neg (fun y => z y.1)]
  have none0 : ∀ (P : FM), P = Mc → ∀ (Q : FM), Q = fm_sI Mt 345 c 0 (Int32.ofInt 0) → RelI a c (cend a P) (tend c Q) none := fun P hP Q hQ => by
    subst hP hQ
    exact relI_end T Tt Wt hh (dk := 0) (x := 0) rfl rfl k345 rfl (fun f b j => by rw [if_neg (by omega)]) (fun f b j => by rw [if_neg (by omega)]; rfl)
  by_cases g0 : g = 0
  · rw [fi_pos g0, fi_pos (Or.inl g0)]
    exact none0 _ rfl _ rfl
  rw [fi_neg g0]
  by_cases q3 : q.1 = Int32.ofInt 3
  · rw [fi_pos (Or.inr q3)]
    have d0 : dk = 0 := by
      rcases w1 with ⟨w, x1, x2, ⟨y, _⟩ | ⟨_, y⟩ | ⟨y, _⟩ | y⟩ | ⟨w, y | y⟩
      · rw [q3] at y; exact absurd y (by decide)
      · have : nI dk = nI 0 := w4.symm.trans y
        have e := congrArg ui this
        rw [ui_nI, ui_nI] at e
        omega
      all_goals (rw [q3] at y; exact absurd y (by decide))
    refine none0 _ ?_ _ rfl
    unfold cput
    rw [if_pos d0]
  rw [fi_neg (show ¬ (g = 0 ∨ q.1 = Int32.ofInt 3) from fun z => z.elim g0 q3)]
  rcases uv v with e | e
  · exact absurd e q3
  rw [e _ (fun _ => rfl)]
  obtain ⟨c1, c2, c3⟩ := cput_1 (r := Mc.2.2 171 a 0) (dk := dk) (x := fval q (fin (Int32.ofInt 2) (Mc.1 159 (Mc.2.2 174 a 0) 0) (Mc.1 160 (Mc.2.2 174 a 0) 0) v) v) (M := Mc)
  obtain ⟨d1, d2, d3⟩ := tput_1 (r := c) (dk := dk) (x := fval q (fin (Int32.ofInt 2) (Mc.1 159 (Mc.2.2 174 a 0) 0) (Mc.1 160 (Mc.2.2 174 a 0) 0) v) v) (M := fm_sI Mt 345 c 0 (Int32.ofInt 0))
  exact relI_end T Tt Wt hh c1 c2 (fun f b z => by rw [d1]; exact k345 f b z) d2 c3 d3
end RelI
