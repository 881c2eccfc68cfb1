/-! trees: a property is put, a node is closed -/
set_option maxRecDepth 100000
section Tp
variable {t q rq : Nat} {M N : FM} {W S X V : List Nat} {s : DSt} {c : Nat}
/-- a property under way: its value isn't yet set -/
def VTh (t : Nat) (M : FM) (W : List Nat) (s : DSt) (X : List Nat) : Prop := RwB (M.2.2 263 t 0) 16384 M W ∧ (M.1 266 t 0 = nI s.1.length ∧ M.1 267 t 0 = nI (s.2.1.length + 1) ∧ M.1 268 t 0 = nI (hdK s.2.2)) ∧ (∀ k, k < s.1.length → NdV (ndc t M.2.2 k) M W ((mdN (hdK s.2.2) s.1).getD k nd0)) ∧ (∀ k, k < s.2.1.length → PpV (ppc t M.2.2 k) M W (s.2.1.getD k pp0)) ∧ PcV (M.2.2 258 (ppc t M.2.2 s.2.1.length) 0) M W X
theorem X5_property (T : Ty M) (D : StT t M.2.2) (V : VTtr t M W s) (hs : s.1.length ≤ 128) (hp : s.2.1.length < 512) (hk : hdK s.2.2 < s.1.length) (Q : RwB q 512 M S) (q1 : M.2.2 261 q 0 ≠ M.2.2 261 (M.2.2 263 t 0) 0) (hS : S.length ≤ 512) (hX : c ≤ S.length) (hl : W.length + c ≤ 16384) :
    HX5_property t q (Int32.ofInt 0) (nI c) M ∧ ∃ N, GX5_property t q (Int32.ofInt 0) (nI c) M = (ppc t M.2.2 s.2.1.length, N) ∧ Frm (PTt t M) M N ∧ Ty N ∧ VTh t N (W ++ S.take c) s (S.take c) := by
  obtain ⟨v1, ⟨v2, v3, v4⟩, v5, v6⟩ := V
  have ih := st_n T D (k := hdK s.2.2) (by omega)
  have nh := tg_e ih
  have ip := st_p T D (k := s.2.1.length) hp
  have np := tg_e ip
  have npc := tN_258 T.1 ip
  have tpc := tg_e npc
  have T5 : Ty (fm_sI (fm_sI M 267 t 0 (nI (s.2.1.length + 1))) 260 (ppc t M.2.2 s.2.1.length) 0 (nI (hdK s.2.2))) := ⟨T.1, tyb_sI rfl (tyb_sI rfl T.2)⟩
  have k0 : ∀ f b i, f ≠ 267 → f ≠ 260 → (fm_sI (fm_sI M 267 t 0 (nI (s.2.1.length + 1))) 260 (ppc t M.2.2 s.2.1.length) 0 (nI (hdK s.2.2))).1 f b i = M.1 f b i := fun f b i h1 h2 => (oI (fun z => h2 z.1)).trans (oI (fun z => h1 z.1))
  have row : ∀ {o room Y}, RwB o room M Y → RwB o room (fm_sI (fm_sI M 267 t 0 (nI (s.2.1.length + 1))) 260 (ppc t M.2.2 s.2.1.length) 0 (nI (hdK s.2.2))) Y := fun {o room Y} h => rwB_f h rfl (k0 262 o 0 (by decide) (by decide)) (fun k => k0 3 _ k (by decide) (by decide))
  obtain ⟨p1, N1, p2, p3, p4, p5⟩ := X7_set (c := M.2.2 258 (ppc t M.2.2 s.2.1.length) 0) (w := M.2.2 263 t 0) (from_ := 0) (many := c) T5 npc (row v1) (row Q) q1 (by omega) hS (by decide) hl
  rw [List.drop_zero] at p4 p5
  have lc : (S.take c).length = c := by rw [List.length_take]; omega
  have r1 : N1.2.2 = M.2.2 := p3.1
  have D1 : StT t N1.2.2 := st_w r1 D
  have pe : M.2.2 258 (ppc t M.2.2 s.2.1.length) 0 = pcc t M.2.2 (s.2.1.length + 128) := pcc_p hp
  have p3' : Frm (PSe (pcc t M.2.2 (s.2.1.length + 128)) (M.2.2 263 t 0) (fm_sI (fm_sI M 267 t 0 (nI (s.2.1.length + 1))) 260 (ppc t M.2.2 s.2.1.length) 0 (nI (hdK s.2.2)))) (fm_sI (fm_sI M 267 t 0 (nI (s.2.1.length + 1))) 260 (ppc t M.2.2 s.2.1.length) 0 (nI (hdK s.2.2))) N1 := by
    have := p3
    rw [pe] at this
    exact this
  have k2 : ∀ f b i, f ≠ 3 → f ≠ 262 → f ≠ 254 → f ≠ 255 → f ≠ 267 → f ≠ 260 → N1.1 f b i = M.1 f b i := fun f b i h1 h2 h3 h4 h5 h6 => (set_o (t := t) p3' h1 h2 (Or.inl ⟨h3, h4⟩)).trans (k0 f b i h5 h6)
  have e268 : N1.1 268 t 0 = nI (hdK s.2.2) := (k2 268 t 0 (by decide) (by decide) (by decide) (by decide) (by decide) (by decide)).trans v4
  have e252 : N1.1 252 (ndc t M.2.2 (hdK s.2.2)) 0 = nI (s.1.getD (hdK s.2.2) nd0).2.2.2.2 := (k2 252 _ 0 (by decide) (by decide) (by decide) (by decide) (by decide) (by decide)).trans (v5 _ hk).1.2.2.2
  have p2 : GX7_set (M.2.2 258 (ppc t M.2.2 s.2.1.length) 0) (M.2.2 263 t 0) q (Int32.ofInt 0) (nI c) (fm_sI (fm_sI M 267 t 0 (nI (s.2.1.length + 1))) 260 (ppc t M.2.2 s.2.1.length) 0 (nI (hdK s.2.2))) = N1 := p2
  have p1 : HX7_set (M.2.2 258 (ppc t M.2.2 s.2.1.length) 0) (M.2.2 263 t 0) q (Int32.ofInt 0) (nI c) (fm_sI (fm_sI M 267 t 0 (nI (s.2.1.length + 1))) 260 (ppc t M.2.2 s.2.1.length) 0 (nI (hdK s.2.2))) := p1
  have v4' : (fm_sI M 267 t 0 (nI (s.2.1.length + 1))).1 268 t 0 = nI (hdK s.2.2) := (oI (fun z => absurd z.1 (by decide))).trans v4
  have H : HX5_property t q (Int32.ofInt 0) (nI c) M ∧ GX5_property t q (Int32.ofInt 0) (nI c) M = (ppc t M.2.2 s.2.1.length, fm_sI N1 252 (ndc t M.2.2 (hdK s.2.2)) 0 (nI ((s.1.getD (hdK s.2.2) nd0).2.2.2.2 + 1))) := by
    unfold HX5_property HX5_property_0 GX5_property GX5_property_0
    dsimp only [s2I]
    rw [v3, up_g, o_cl (by omega), show M.2.2 3 (M.2.2 265 t 0) s.2.1.length = ppc t M.2.2 s.2.1.length from rfl, v4', p2, r1, e268, o_cl (by omega), show M.2.2 3 (M.2.2 264 t 0) (hdK s.2.2) = ndc t M.2.2 (hdK s.2.2) from rfl, e252, up_g]
    exact ⟨⟨in_nI (M := fm_sI M 267 t 0 (nI (s.2.1.length + 1))) D.2.2.1 hp (by decide), p1, in_nI (N := 128) (by rw [r1]; exact D.2.1) (by omega) (by decide), trivial⟩, rfl⟩
  have T' : Ty (fm_sI N1 252 (ndc t M.2.2 (hdK s.2.2)) 0 (nI ((s.1.getD (hdK s.2.2) nd0).2.2.2.2 + 1))) := by
    have := (gX5_property t q (Int32.ofInt 0) (nI c) M T D.1 Q.1 H.1).2.1
    rw [H.2] at this
    exact this
  refine ⟨H.1, _, H.2, ⟨r1, fun f b i z => ?_⟩, T', ?_, ⟨?_, ?_, ?_⟩, fun k hk' => ?_, fun k hk' => ?_, ?_⟩
  · have h1 : ¬ PSe (M.2.2 258 (ppc t M.2.2 s.2.1.length) 0) (M.2.2 263 t 0) (fm_sI (fm_sI M 267 t 0 (nI (s.2.1.length + 1))) 260 (ppc t M.2.2 s.2.1.length) 0 (nI (hdK s.2.2))) f b := fun y => by
      rcases y with y | y
      · exact z (Or.inr (Or.inl ⟨y.1, by rw [y.2]; exact tpc⟩))
      · exact z (Or.inr (Or.inr (Or.inr (Or.inr y))))
    refine ⟨(oI (fun y => z (Or.inl ⟨Or.inr (Or.inr (Or.inr (Or.inl y.1))), by rw [y.2.1]; exact nh⟩))).trans (((p3.2 f b i h1).1).trans ((oI (fun y => z (Or.inr (Or.inr (Or.inl ⟨y.1, by rw [y.2.1]; exact np⟩))))).trans (oI (fun y => z (Or.inr (Or.inr (Or.inr (Or.inl ⟨Or.inr (Or.inl y.1), y.2.1⟩)))))))), ((p3.2 f b i h1).2)⟩
  · show RwB (N1.2.2 263 t 0) _ _ _
    rw [r1]
    exact rwB_f p4 rfl (oI (fun z => absurd z.1 (by decide))) (fun k => oI (fun z => absurd z.1 (by decide)))
  · exact (oI (fun z => absurd z.1 (by decide))).trans ((k2 266 t 0 (by decide) (by decide) (by decide) (by decide) (by decide) (by decide)).trans v2)
  · refine (oI (fun z => absurd z.1 (by decide))).trans ((set_o (t := t) p3' (by decide) (by decide) (Or.inl (by decide))).trans ?_)
    exact (oI (fun z => absurd z.1 (by decide))).trans (if_pos ⟨rfl, rfl, rfl⟩)
  · exact (oI (fun z => absurd z.1 (by decide))).trans e268
  · have A1 := ndV_k (M := M) (N := fm_sI (fm_sI M 267 t 0 (nI (s.2.1.length + 1))) 260 (ppc t M.2.2 s.2.1.length) 0 (nI (hdK s.2.2))) rfl (fun f h => k0 f _ 0 (by omega) (by omega)) (fun f h => k0 f _ 0 (by omega) (by omega)) (v5 k hk')
    have A2 := set_n (t := t) (M := fm_sI (fm_sI M 267 t 0 (nI (s.2.1.length + 1))) 260 (ppc t M.2.2 s.2.1.length) 0 (nI (hdK s.2.2))) D p3' (by omega) (by omega) (by omega) A1 (S.take c)
    rw [mdN_g _ _ _ hk']
    by_cases e : k = hdK s.2.2
    · rw [if_pos e]
      obtain ⟨⟨x1, x2, x3, x4⟩, x5⟩ := A2
      have x5' := pcN_k (N := fm_sI N1 252 (ndc t M.2.2 (hdK s.2.2)) 0 (nI ((s.1.getD (hdK s.2.2) nd0).2.2.2.2 + 1))) [] x5 (oI (fun z => absurd z.1 (by decide))) (oI (fun z => absurd z.1 (by decide)))
      rw [List.append_nil] at x5'
      refine ⟨⟨(oI (fun z => absurd z.1 (by decide))).trans x1, (oI (fun z => absurd z.1 (by decide))).trans x2, (oI (fun z => absurd z.1 (by decide))).trans x3, ?_⟩, x5'⟩
      show (fm_sI N1 252 (ndc t M.2.2 (hdK s.2.2)) 0 _).1 252 (ndc t N1.2.2 k) 0 = _
      rw [r1, e]
      exact if_pos ⟨rfl, rfl, rfl⟩
    · rw [if_neg e]
      have dn : ndc t N1.2.2 k ≠ ndc t M.2.2 (hdK s.2.2) := fun z => e (D.2.2.2.1 _ _ (by omega) (by omega) (by rw [r1] at z; exact z))
      exact ndV_k (M := N1) (N := fm_sI N1 252 (ndc t M.2.2 (hdK s.2.2)) 0 (nI ((s.1.getD (hdK s.2.2) nd0).2.2.2.2 + 1))) rfl (fun f h => oI (fun z => dn z.2.1)) (fun f h => oI (fun z => by omega)) A2
  · have A1 := ppV_k (M := M) (N := fm_sI (fm_sI M 267 t 0 (nI (s.2.1.length + 1))) 260 (ppc t M.2.2 s.2.1.length) 0 (nI (hdK s.2.2))) rfl (fun f h => k0 f _ 0 (by omega) (by omega)) (fun f h => k0 f _ 0 (by omega) (by omega)) (v6 k hk')
    have A2 := set_q (t := t) (M := fm_sI (fm_sI M 267 t 0 (nI (s.2.1.length + 1))) 260 (ppc t M.2.2 s.2.1.length) 0 (nI (hdK s.2.2))) D p3' (by omega) (by omega) (by omega) A1 (S.take c)
    exact ppV_k (M := N1) (N := fm_sI N1 252 (ndc t M.2.2 (hdK s.2.2)) 0 (nI ((s.1.getD (hdK s.2.2) nd0).2.2.2.2 + 1))) rfl (fun f h => oI (fun z => by omega)) (fun f h => oI (fun z => by omega)) A2
  · show PcV (N1.2.2 258 (ppc t N1.2.2 s.2.1.length) 0) _ _ _
    rw [r1]
    have x := pcV_k (N := fm_sI N1 252 (ndc t M.2.2 (hdK s.2.2)) 0 (nI ((s.1.getD (hdK s.2.2) nd0).2.2.2.2 + 1))) [] p5 (oI (fun z => absurd z.1 (by decide))) (oI (fun z => absurd z.1 (by decide)))
    rw [List.append_nil] at x
    exact x
/-- the value is set -/
theorem X5_value (T : Ty M) (D : StT t M.2.2) (V : VTh t M W s X) (hs : s.1.length ≤ 128) (hp : s.2.1.length < 512) (Q : RwB q 512 M S) (q1 : M.2.2 261 q 0 ≠ M.2.2 261 (M.2.2 263 t 0) 0) (hS : S.length ≤ 512) (hX : c ≤ S.length) (hl : W.length + (S.length - c) ≤ 16384) :
    HX7_set (M.2.2 259 (ppc t M.2.2 s.2.1.length) 0) (M.2.2 263 t 0) q (nI c) (nI (S.length - c)) M ∧ ∃ N, GX7_set (M.2.2 259 (ppc t M.2.2 s.2.1.length) 0) (M.2.2 263 t 0) q (nI c) (nI (S.length - c)) M = N ∧ Frm (PTt t M) M N ∧ Ty N ∧ VTtr t N (W ++ S.drop c) (dProp X (S.drop c) s) := by
  obtain ⟨v1, ⟨v2, v3, v4⟩, v5, v6, v7⟩ := V
  have ip := st_p T D (k := s.2.1.length) hp
  have npc := tN_259 T.1 ip
  have tpc := tg_e npc
  obtain ⟨p1, N, p2, p3, p4, p5⟩ := X7_set (c := M.2.2 259 (ppc t M.2.2 s.2.1.length) 0) (w := M.2.2 263 t 0) (from_ := c) (many := S.length - c) T npc v1 Q q1 (by omega) hS (by decide) hl
  rw [List.take_of_length_le (by rw [List.length_drop]; omega)] at p4 p5
  have T' : Ty N := by
    have := (gX7_set _ _ _ _ _ M T (tN_263 T.1 D.1) npc Q.1 p1).2.1
    rw [p2] at this
    exact this
  have r1 := p3.1
  have pe : M.2.2 259 (ppc t M.2.2 s.2.1.length) 0 = pcc t M.2.2 (s.2.1.length + 640) := pcc_v
  have p3' := p3
  rw [pe] at p3'
  refine ⟨p1, N, p2, ⟨r1, fun f b i z => p3.2 f b i (fun y => ?_)⟩, T', by rw [r1]; exact p4, ⟨?_, ?_, ?_⟩, fun k hk' => ?_, fun k hk' => ?_⟩
  · rcases y with y | y
    · exact z (Or.inr (Or.inl ⟨y.1, by rw [y.2]; exact tpc⟩))
    · exact z (Or.inr (Or.inr (Or.inr (Or.inr y))))
  · refine (set_o (t := t) p3' (by decide) (by decide) (Or.inl (by decide))).trans (v2.trans ?_)
    show _ = nI (mdN (hdK s.2.2) s.1).length
    rw [mdN_l]
  · refine (set_o (t := t) p3' (by decide) (by decide) (Or.inl (by decide))).trans (v3.trans ?_)
    show _ = nI (s.2.1 ++ [(X, S.drop c)]).length
    rw [List.length_append]
    rfl
  · exact (set_o (t := t) p3' (by decide) (by decide) (Or.inl (by decide))).trans v4
  · have hk2 : k < s.1.length := by
      have h : k < (mdN (hdK s.2.2) s.1).length := hk'
      rw [mdN_l] at h
      exact h
    exact set_n (t := t) D p3' (by omega) (by omega) (by omega) (v5 k hk2) (S.drop c)
  · have e0 : (dProp X (S.drop c) s).2.1 = s.2.1 ++ [(X, S.drop c)] := rfl
    rw [e0, List.length_append] at hk'
    have hk' : k < s.2.1.length + 1 := hk'
    rw [e0]
    by_cases q : k = s.2.1.length
    · rw [q, List.getD_eq_getElem?_getD, List.getElem?_concat_length]
      unfold PpV
      rw [r1]
      have x := v7
      rw [pcc_p (t := t) (R := M.2.2) hp] at x
      refine ⟨?_, p5⟩
      rw [pcc_p (t := t) (R := M.2.2) hp]
      exact set_p (t := t) D p3' (by omega) (by omega) (by omega) x (S.drop c)
    · have hk2 : k < s.2.1.length := by omega
      rw [List.getD_eq_getElem?_getD, List.getElem?_append_left hk2, ← List.getD_eq_getElem?_getD]
      exact set_q (t := t) D p3' (by omega) (by omega) (by omega) (v6 k hk2) (S.drop c)
/-- a node is closed -/
theorem X5_close {a b : Nat} {r : List Nat} (T : Ty M) (D : StT t M.2.2) (V : VTtr t M W s) (hs : s.1.length ≤ 128) (e : s.2.2 = a :: b :: r) (ha : a < s.1.length) (hb : (s.1.getD a nd0).2.1 = b) :
    HX5_close t M ∧ ∃ N, (GX5_close t M).2 = N ∧ Frm (PTt t M) M N ∧ Ty N ∧ VTtr t N W (dClose s) := by
  obtain ⟨v1, ⟨v2, v3, v4⟩, v5, v6⟩ := V
  have eh : hdK s.2.2 = a := by rw [e]; rfl
  rw [eh] at v4
  obtain ⟨⟨w1, -⟩, -⟩ := v5 a ha
  rw [hb] at w1
  have H : HX5_close t M ∧ (GX5_close t M).2 = fm_sI M 268 t 0 (nI b) := by
    unfold HX5_close HX5_close_0 GX5_close GX5_close_0
    dsimp only
    rw [v4, o_cl (by omega), show M.2.2 3 (M.2.2 264 t 0) a = ndc t M.2.2 a from rfl, w1]
    exact ⟨⟨in_nI D.2.1 (by omega) (by decide), trivial⟩, rfl⟩
  have k0 : ∀ f x i, f ≠ 268 → (fm_sI M 268 t 0 (nI b)).1 f x i = M.1 f x i := fun f x i h => oI (fun z => h z.1)
  refine ⟨H.1, _, H.2, frm_I frm_r (Or.inr (Or.inr (Or.inr (Or.inl ⟨Or.inr (Or.inr rfl), rfl⟩)))), ⟨T.1, tyb_sI rfl T.2⟩, rwB_f v1 rfl (k0 262 _ 0 (by decide)) (fun k => k0 3 _ k (by decide)), ⟨(k0 266 _ 0 (by decide)).trans v2, (k0 267 _ 0 (by decide)).trans v3, ?_⟩, fun k hk => ndV_k (M := M) (N := fm_sI M 268 t 0 (nI b)) rfl (fun f h => k0 f _ 0 (by omega)) (fun f h => k0 f _ 0 (by omega)) (v5 k hk), fun k hk => ppV_k (M := M) (N := fm_sI M 268 t 0 (nI b)) rfl (fun f h => k0 f _ 0 (by omega)) (fun f h => k0 f _ 0 (by omega)) (v6 k hk)⟩
  show (fm_sI M 268 t 0 (nI b)).1 268 t 0 = nI (hdK s.2.2.tail)
  rw [e]
  exact if_pos ⟨rfl, rfl, rfl⟩
/-- a tree is made empty -/
theorem X5_clear (T : Ty M) (D : StT t M.2.2) (n0 : ∃ o, o ≤ 16384 ∧ M.1 254 (M.2.2 248 (ndc t M.2.2 0) 0) 0 = nI o) (hl : M.2.2 1 (M.2.2 261 (M.2.2 263 t 0) 0) 0 = 16384) :
    HX5_clear t M ∧ ∃ N, GX5_clear t M = N ∧ Frm (PTt t M) M N ∧ Ty N ∧ VTtr t N [] ([([], 4294967295, 1, 0, 0)], [], [0]) := by
  have ic := st_n T D (k := 0) (by decide)
  have nc := tg_e ic
  have npc := tN_248 T.1 ic
  have tpc := tg_e npc
  have ns := tN_263 T.1 D.1
  obtain ⟨b1, N, b2, b3, b4, b5, b6, b7, b8, b9, b10, b11⟩ := X5_begin (t := t) (M := fm_sI (fm_sI (fm_sI M 262 (M.2.2 263 t 0) 0 (Int32.ofInt 0)) 266 t 0 (Int32.ofInt 0)) 267 t 0 (Int32.ofInt 0)) (a1 := Int32.ofInt (-1)) (a2 := Int32.ofInt 1) (c := 0) D (by decide) ((oI (fun z => absurd z.1 (by decide))).trans (if_pos ⟨rfl, rfl, rfl⟩))
  have r1 : N.2.2 = M.2.2 := congrArg Prod.snd b3
  have H : HX5_clear t M ∧ GX5_clear t M = N := ⟨⟨b1, trivial⟩, b2⟩
  have T' : Ty N := by
    have := (gX5_clear t M T D.1 H.1).2.1
    rw [H.2] at this
    exact this
  have k1 : ∀ f b i, ¬ ((f = 249 ∨ f = 250 ∨ f = 251 ∨ f = 252 ∨ f = 253) ∧ b = ndc t M.2.2 0) → ¬ (f = 255 ∧ b = M.2.2 248 (ndc t M.2.2 0) 0) → ¬ ((f = 266 ∨ f = 267 ∨ f = 268) ∧ b = t) → ¬ (f = 262 ∧ b = M.2.2 263 t 0) → N.1 f b i = M.1 f b i := fun f b i h1 h2 h3 h4 => (b4 f b i h1 h2 (fun z => h3 ⟨by omega, z.2⟩)).trans ((oI (fun z => h3 ⟨Or.inr (Or.inl z.1), z.2.1⟩)).trans ((oI (fun z => h3 ⟨Or.inl z.1, z.2.1⟩)).trans (oI (fun z => h4 ⟨z.1, z.2.1⟩))))
  refine ⟨H.1, N, H.2, ⟨r1, fun f b i z => ⟨k1 f b i (fun y => z (Or.inl ⟨y.1, by rw [y.2]; exact nc⟩)) (fun y => z (Or.inr (Or.inl ⟨Or.inr y.1, by rw [y.2]; exact tpc⟩))) (fun y => z (Or.inr (Or.inr (Or.inr (Or.inl y))))) (fun y => z (Or.inr (Or.inr (Or.inr (Or.inr (Or.inl y)))))), ?_⟩⟩, T', ?_, ⟨b10, ?_, b11⟩, fun k hk => ?_, fun k hk => absurd hk (Nat.not_lt_zero _)⟩
  · rw [congrArg Prod.fst b3]
    rfl
  · refine ⟨?_, ?_, ?_, fun k hk => absurd hk (Nat.not_lt_zero _), fun x hx => by cases hx⟩
    · rw [fm_is, r1]
      exact ns
    · rw [r1]
      exact hl
    · rw [r1]
      refine (b4 262 _ 0 (fun z => by omega) (fun z => by omega) (fun z => by omega)).trans ?_
      exact (oI (fun z => absurd z.1 (by decide))).trans ((oI (fun z => absurd z.1 (by decide))).trans (if_pos ⟨rfl, rfl, rfl⟩))
  · refine (b4 267 _ 0 (fun z => by omega) (fun z => by omega) (fun z => by omega)).trans ?_
    exact if_pos ⟨rfl, rfl, rfl⟩
  · have e : k = 0 := Nat.lt_one_iff.mp hk
    rw [e]
    unfold NdV
    rw [r1]
    obtain ⟨o, ho, n0⟩ := n0
    refine ⟨⟨b5, b6, ?_, b8⟩, Or.inr ⟨rfl, o, ho, ?_, b9⟩⟩
    · refine b7.trans ?_
      exact if_pos ⟨rfl, rfl, rfl⟩
    · refine (k1 254 _ 0 (fun z => by omega) (fun z => by omega) (fun z => by omega) (fun z => by omega)).trans n0
end Tp
