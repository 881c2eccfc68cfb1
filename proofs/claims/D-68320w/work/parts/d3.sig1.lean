/-! the signals: the twin settles; the parts stand beside each other -/
set_option maxRecDepth 100000
noncomputable def kSe (z : Prop) (K : Kr) : Kr := kLk (fi z (K.1 ||| b1 10) (off1 K.1 10), K.2)
/-- the timer's numbers -/
def VTt (m p : Nat) (M : FM) (soft : Nat → Int32) (num : Nat → Int64) : Prop := M.1 395 m 0 = nI p ∧ (∀ h, h < 4 → M.1 3 (M.2.2 396 m 0) h = soft h) ∧ (∀ k, k < 5 → tNm m M k = num k)
def VTc (t p : Nat) (M : FM) (soft : Nat → Int32) (num : Nat → Int64) : Prop := M.1 244 t 0 = nI p ∧ (∀ h, h < 4 → M.1 3 (M.2.2 245 t 0) h = soft h) ∧ (∀ k, k < 5 → M.2.1 3 (M.2.2 246 t 0) k = num k)
section Sg
variable {m p : Nat} {M M' : FM} {K : Kr} {S : Sr} {soft : Nat → Int32} {num : Nat → Int64}
theorem vkt_tr (h2 : M'.2.2 = M.2.2) (h1 : ∀ b i, (b = M.2.2 399 m 0 ∨ b = M.2.2 400 m 0 ∨ b = M.2.2 401 m 0 ∨ b = M.2.2 402 m 0 ∨ b = M.2.2 403 m 0 ∨ b = M.2.2 404 m 0) → M'.1 3 b i = M.1 3 b i) (V : VKt m M K) : VKt m M' K := by
  obtain ⟨v1, v2, v3, v4, v5, v6⟩ := V
  unfold VKt
  rw [h2]
  exact ⟨fun s hs => (h1 _ s (by simp)).trans (v1 s hs), fun s hs => (h1 _ s (by simp)).trans (v2 s hs), fun s hs => (h1 _ s (by simp)).trans (v3 s hs), fun s hs => (h1 _ s (by simp)).trans (v4 s hs), fun s hs => (h1 _ s (by simp)).trans (v5 s hs), fun s hs => (h1 _ s (by simp)).trans (v6 s hs)⟩
theorem vst_tr (h2 : M'.2.2 = M.2.2) (h1 : ∀ b i, (b = M.2.2 405 m 0 ∨ b = M.2.2 406 m 0 ∨ b = M.2.2 410 m 0 ∨ b = M.2.2 412 m 0) → M'.1 3 b i = M.1 3 b i) (h0 : ∀ f, 407 ≤ f → f ≤ 411 → M'.1 f m 0 = M.1 f m 0) (hL : M'.2.1 413 m 0 = M.2.1 413 m 0) (V : VSt m M S) : VSt m M' S := by
  obtain ⟨v1, v2, v3, v4, v5, v6, v7, v8, v9⟩ := V
  unfold VSt
  rw [h2, hL, h0 411 (by decide) (by decide), h0 407 (by decide) (by decide), h0 408 (by decide) (by decide), h0 409 (by decide) (by decide)]
  exact ⟨fun s hs => (h1 _ s (by simp)).trans (v1 s hs), fun s hs => (h1 _ s (by simp)).trans (v2 s hs), v3, fun s hs => (h1 _ s (by simp)).trans (v4 s hs), v5, v6, v7, fun s hs => (h1 _ s (by simp)).trans (v8 s hs), v9⟩
theorem vtt_tr (h2 : M'.2.2 = M.2.2) (h1 : ∀ i, M'.1 3 (M.2.2 396 m 0) i = M.1 3 (M.2.2 396 m 0) i) (h0 : M'.1 395 m 0 = M.1 395 m 0) (hL : M'.2.1 398 m 0 = M.2.1 398 m 0) (h3 : ∀ i, M'.2.1 3 (M.2.2 397 m 0) i = M.2.1 3 (M.2.2 397 m 0) i) (V : VTt m p M soft num) : VTt m p M' soft num := by
  obtain ⟨v1, v2, v3⟩ := V
  refine ⟨h0.trans v1, fun h hh => ?_, fun k hk => ?_⟩
  · rw [h2]
    exact (h1 h).trans (v2 h hh)
  · rw [← v3 k hk]
    unfold tNm
    rw [hL, h2, h3]
/-- the rows of the timer, of the controller, of the line -/
theorem t_rows (T : Ty M) (W : Wf M) (n : fm_is M 99 99 m = true) :
    (∀ b, (b = M.2.2 399 m 0 ∨ b = M.2.2 400 m 0 ∨ b = M.2.2 401 m 0 ∨ b = M.2.2 402 m 0 ∨ b = M.2.2 403 m 0 ∨ b = M.2.2 404 m 0) → b ≠ M.2.2 405 m 0 ∧ b ≠ M.2.2 406 m 0 ∧ b ≠ M.2.2 410 m 0 ∧ b ≠ M.2.2 412 m 0 ∧ b ≠ M.2.2 396 m 0) ∧
    (M.2.2 396 m 0 ≠ M.2.2 405 m 0 ∧ M.2.2 396 m 0 ≠ M.2.2 406 m 0 ∧ M.2.2 396 m 0 ≠ M.2.2 410 m 0 ∧ M.2.2 396 m 0 ≠ M.2.2 412 m 0) ∧
    (∀ b, (b = M.2.2 399 m 0 ∨ b = M.2.2 400 m 0 ∨ b = M.2.2 401 m 0 ∨ b = M.2.2 402 m 0 ∨ b = M.2.2 403 m 0 ∨ b = M.2.2 404 m 0 ∨ b = M.2.2 405 m 0 ∨ b = M.2.2 406 m 0 ∨ b = M.2.2 410 m 0 ∨ b = M.2.2 412 m 0 ∨ b = M.2.2 396 m 0) → b ≠ m) := by
  have a5 := tN_405 T.1 n
  have a6 := tN_406 T.1 n
  have a10 := tN_410 T.1 n
  have a12 := tN_412 T.1 n
  have a96 := tN_396 T.1 n
  have s99 : Sf M (M.2.2 399 m 0) 399 := W.2.1.1 (99, 99, 399, 399) (by decide) m n
  have s0 : Sf M (M.2.2 400 m 0) 400 := W.2.1.1 (99, 99, 400, 400) (by decide) m n
  have s1 : Sf M (M.2.2 401 m 0) 401 := W.2.1.1 (99, 99, 401, 401) (by decide) m n
  have s2 : Sf M (M.2.2 402 m 0) 402 := W.2.1.1 (99, 99, 402, 402) (by decide) m n
  have s3 : Sf M (M.2.2 403 m 0) 403 := W.2.1.1 (99, 99, 403, 403) (by decide) m n
  have s4 : Sf M (M.2.2 404 m 0) 404 := W.2.1.1 (99, 99, 404, 404) (by decide) m n
  have s5 : Sf M (M.2.2 405 m 0) 405 := W.2.1.1 (99, 99, 405, 405) (by decide) m n
  have s6 : Sf M (M.2.2 406 m 0) 406 := W.2.1.1 (99, 99, 406, 406) (by decide) m n
  have s10 : Sf M (M.2.2 410 m 0) 410 := W.2.1.1 (99, 99, 410, 410) (by decide) m n
  have s12 : Sf M (M.2.2 412 m 0) 412 := W.2.1.1 (99, 99, 412, 412) (by decide) m n
  have s96 : Sf M (M.2.2 396 m 0) 396 := W.2.1.1 (99, 99, 396, 396) (by decide) m n
  refine ⟨fun b hb => ?_, ⟨nis a96 a5 (by decide), nis a96 a6 (by decide), nis a96 a10 (by decide), nis a96 a12 (by decide)⟩, fun b hb => ?_⟩
  · rcases hb with rfl | rfl | rfl | rfl | rfl | rfl
    · have x := fm_ist (lo := 904) rfl (tN_399 T.1 n)
      exact ⟨site_ne W s99 s5 (by decide) x, site_ne W s99 s6 (by decide) x, site_ne W s99 s10 (by decide) x, site_ne W s99 s12 (by decide) x, site_ne W s99 s96 (by decide) x⟩
    · have x := fm_ist (lo := 904) rfl (tN_400 T.1 n)
      exact ⟨site_ne W s0 s5 (by decide) x, site_ne W s0 s6 (by decide) x, site_ne W s0 s10 (by decide) x, site_ne W s0 s12 (by decide) x, site_ne W s0 s96 (by decide) x⟩
    · have x := fm_ist (lo := 904) rfl (tN_401 T.1 n)
      exact ⟨site_ne W s1 s5 (by decide) x, site_ne W s1 s6 (by decide) x, site_ne W s1 s10 (by decide) x, site_ne W s1 s12 (by decide) x, site_ne W s1 s96 (by decide) x⟩
    · have x := fm_ist (lo := 901) rfl (tN_402 T.1 n)
      exact ⟨site_ne W s2 s5 (by decide) x, site_ne W s2 s6 (by decide) x, site_ne W s2 s10 (by decide) x, site_ne W s2 s12 (by decide) x, site_ne W s2 s96 (by decide) x⟩
    · have x := fm_ist (lo := 901) rfl (tN_403 T.1 n)
      exact ⟨site_ne W s3 s5 (by decide) x, site_ne W s3 s6 (by decide) x, site_ne W s3 s10 (by decide) x, site_ne W s3 s12 (by decide) x, site_ne W s3 s96 (by decide) x⟩
    · have x := fm_ist (lo := 901) rfl (tN_404 T.1 n)
      exact ⟨site_ne W s4 s5 (by decide) x, site_ne W s4 s6 (by decide) x, site_ne W s4 s10 (by decide) x, site_ne W s4 s12 (by decide) x, site_ne W s4 s96 (by decide) x⟩
  · rcases hb with rfl | rfl | rfl | rfl | rfl | rfl | rfl | rfl | rfl | rfl | rfl
    · exact nis (tN_399 T.1 n) n (by decide)
    · exact nis (tN_400 T.1 n) n (by decide)
    · exact nis (tN_401 T.1 n) n (by decide)
    · exact nis (tN_402 T.1 n) n (by decide)
    · exact nis (tN_403 T.1 n) n (by decide)
    · exact nis (tN_404 T.1 n) n (by decide)
    · exact nis a5 n (by decide)
    · exact nis a6 n (by decide)
    · exact nis a10 n (by decide)
    · exact nis a12 n (by decide)
    · exact nis a96 n (by decide)
/-- the line moves, the others stay; and so on -/
theorem frT_k (T : Ty M) (W : Wf M) (n : fm_is M 99 99 m = true) (F : FrT m M M') (V : VKt m M K) : VKt m M' K := by
  obtain ⟨r1, r2, r3⟩ := t_rows T W n
  refine vkt_tr F.1 (fun b i hb => (F.2 3 b i ?_).1) V
  obtain ⟨x1, x2, x3, x4, _⟩ := r1 b hb
  rintro (⟨q, _⟩ | ⟨_, q | q | q | q⟩)
  · exact r3 b (by rcases hb with e | e | e | e | e | e <;> simp [e]) q
  · exact x1 q
  · exact x2 q
  · exact x3 q
  · exact x4 q
theorem frT_tm (T : Ty M) (W : Wf M) (n : fm_is M 99 99 m = true) (F : FrT m M M') (V : VTt m p M soft num) : VTt m p M' soft num := by
  obtain ⟨r1, ⟨q1, q2, q3, q4⟩, r3⟩ := t_rows T W n
  have nn : M.2.2 397 m 0 ≠ m := nis (tN_397 T.1 n) n (by decide)
  have n5 : ∀ {x}, fm_is M 901 901 x = true → M.2.2 397 m 0 ≠ x := fun h => nis (tN_397 T.1 n) h (by decide)
  refine vtt_tr F.1 (fun i => (F.2 3 _ i ?_).1) ((F.2 395 m 0 ?_).1) ((F.2 398 m 0 ?_).2) (fun i => (F.2 3 _ i ?_).2) V
  · rintro (⟨q, _⟩ | ⟨_, q | q | q | q⟩)
    · exact r3 _ (by simp) q
    · exact q1 q
    · exact q2 q
    · exact q3 q
    · exact q4 q
  · omega
  · omega
  · rintro (⟨q, _⟩ | ⟨_, q | q | q | q⟩)
    · exact nn q
    · exact n5 (tN_405 T.1 n) q
    · exact n5 (tN_406 T.1 n) q
    · exact n5 (tN_410 T.1 n) q
    · exact n5 (tN_412 T.1 n) q
theorem frK_s (T : Ty M) (W : Wf M) (n : fm_is M 99 99 m = true) (F : FrK m M M') (V : VSt m M S) : VSt m M' S := by
  obtain ⟨r1, r2, r3⟩ := t_rows T W n
  refine vst_tr F.1 (fun b i hb => F.2.1 3 b i ?_) (fun f _ _ => F.2.1 f m 0 (by omega)) (F.2.2 413 m 0) V
  rintro ⟨_, q⟩
  obtain ⟨x1, x2, x3, x4, _⟩ := r1 b q
  rcases hb with e | e | e | e
  · exact x1 e
  · exact x2 e
  · exact x3 e
  · exact x4 e
theorem frK_tm (T : Ty M) (W : Wf M) (n : fm_is M 99 99 m = true) (F : FrK m M M') (V : VTt m p M soft num) : VTt m p M' soft num := by
  obtain ⟨r1, r2, r3⟩ := t_rows T W n
  refine vtt_tr F.1 (fun i => F.2.1 3 _ i ?_) (F.2.1 395 m 0 (by omega)) (F.2.2 398 m 0) (fun i => F.2.2 3 _ i) V
  rintro ⟨_, q⟩
  exact (r1 _ q).2.2.2.2 rfl
/-- the twin settles -/
theorem X96_settle_L (n : fm_is M 99 99 m = true) : ∀ (d s j : Nat) (N : FM), Ty N → Wf N → N.2 = M.2 → s + d = 32 → d < j →
    ∃ X, FX96_settle_L22 fN j m (nI s) N = some X ∧ Ty X ∧ X.2 = N.2 ∧ ∀ f b i, X.1 f b i = if f = 3 ∧ b = N.2.2 400 m 0 ∧ s ≤ i ∧ i < 32 then bz (¬ N.1 3 (N.2.2 400 m 0) i = 0 ∨ (¬ N.1 3 (N.2.2 399 m 0) i = 0 ∧ N.1 3 (N.2.2 401 m 0) i = 0)) else N.1 f b i := by
  intro d
  induction d with
  | zero =>
    intro s j N TN WN e2 hs hj
    obtain ⟨j, rfl⟩ : ∃ i, j = i + 1 := ⟨j - 1, by omega⟩
    have nN : fm_is N 99 99 m = true := by unfold fm_is at n ⊢; rw [e2]; exact n
    have h32 : Int32.ofInt 32 ≤ nI s := (nge (by omega) 32 (by decide)).mpr (by omega)
    refine ⟨N, ?_, TN, rfl, fun f b i => by rw [if_neg (by omega)]⟩
    show FX96_settle_22 fN (FX96_settle_L22 fN j) m (nI s) N = _
    rw [(gX96_settle_22 _ _ _ N TN nN ⟨fun _ => trivial, fun q => absurd h32 q⟩).1]
    unfold GX96_settle_22
    rw [fi_pos h32]
    rfl
  | succ d ih =>
    intro s j N TN WN e2 hs hj
    obtain ⟨j, rfl⟩ : ∃ i, j = i + 1 := ⟨j - 1, by omega⟩
    have nN : fm_is N 99 99 m = true := by unfold fm_is at n ⊢; rw [e2]; exact n
    obtain ⟨⟨d1, d2, d3⟩, _, _⟩ := t_ne6 TN WN nN
    have h32 : ¬ Int32.ofInt 32 ≤ nI s := fun q => by have := (nge (by omega) 32 (by decide)).mp q; omega
    have i0 : fm_in N (N.2.2 400 m 0) (nI s) = true := in_nI (tL_400 TN.1 nN) (by omega) (by decide)
    have i9 : fm_in N (N.2.2 399 m 0) (nI s) = true := in_nI (tL_399 TN.1 nN) (by omega) (by decide)
    have i1 : fm_in N (N.2.2 401 m 0) (nI s) = true := in_nI (tL_401 TN.1 nN) (by omega) (by decide)
    have k65 : ∀ z, HX96_settle_65 m (nI s) (N.2.2 400 m 0) (nI s) z N := fun z => ⟨i0, trivial⟩
    have hH : HX96_settle_22 m (nI s) N := ⟨fun q => absurd q h32, fun _ => ⟨i0, fun _ => ⟨i9, fun _ => k65 _, fun _ => ⟨i1, fun _ => k65 _, fun _ => k65 _⟩⟩, fun _ => k65 _⟩⟩
    have eG := (gX96_settle_22 (FX96_settle_L22 fN j) m (nI s) N TN nN hH).1
    have key : FX96_settle_22 fN (FX96_settle_L22 fN j) m (nI s) N = FX96_settle_L22 fN j m (nI (s + 1)) (fm_sI N 3 (N.2.2 400 m 0) s (bz (¬ N.1 3 (N.2.2 400 m 0) s = 0 ∨ (¬ N.1 3 (N.2.2 399 m 0) s = 0 ∧ N.1 3 (N.2.2 401 m 0) s = 0)))) := by
      rw [eG]
      unfold GX96_settle_22
      rw [fi_neg h32]
      unfold GX96_settle_64 GX96_settle_60 GX96_settle_65
      dsimp only
      rw [o_cl (n := s) (by omega), up_1 (by omega), show Int32.ofInt 0 &&& 1 = Int32.ofInt 0 from rfl, show Int32.ofInt 1 &&& 1 = Int32.ofInt 1 from rfl]
      by_cases c0 : N.1 3 (N.2.2 400 m 0) s = 0
      · rw [fi_pos c0]
        by_cases c9 : N.1 3 (N.2.2 399 m 0) s = 0
        · rw [fi_pos c9, bz_f (fun q => q.elim (fun z => z c0) (fun z => z.1 c9))]
          rfl
        · rw [fi_neg c9]
          by_cases c1 : N.1 3 (N.2.2 401 m 0) s = 0
          · rw [fi_pos c1, bz_t (Or.inr ⟨c9, c1⟩)]
            rfl
          · rw [fi_neg c1, bz_f (fun q => q.elim (fun z => z c0) (fun z => c1 z.2))]
            rfl
      · rw [fi_neg c0, bz_t (Or.inl c0)]
        rfl
    have T1 : Ty (fm_sI N 3 (N.2.2 400 m 0) s (bz (¬ N.1 3 (N.2.2 400 m 0) s = 0 ∨ (¬ N.1 3 (N.2.2 399 m 0) s = 0 ∧ N.1 3 (N.2.2 401 m 0) s = 0)))) := ⟨TN.1, tyb_s3' TN.2 (fun _ => bz_z _)⟩
    obtain ⟨X, e, TX, x2, x3⟩ := ih (s + 1) j _ T1 (wf_sI (lo := 904) (hi := 904) WN rfl (tN_400 TN.1 nN)) e2 (by omega) (by omega)
    refine ⟨X, key.trans e, TX, x2, fun f b i => ?_⟩
    rw [x3 f b i]
    have r0 : ∀ y i, (y ≠ N.2.2 400 m 0 ∨ i ≠ s) → (fm_sI N 3 (N.2.2 400 m 0) s (bz (¬ N.1 3 (N.2.2 400 m 0) s = 0 ∨ (¬ N.1 3 (N.2.2 399 m 0) s = 0 ∧ N.1 3 (N.2.2 401 m 0) s = 0)))).1 3 y i = N.1 3 y i := fun y i h => by
      rw [rI, if_neg (fun q => h.elim (fun z => z q.2.1) (fun z => z q.2.2))]
    show (if f = 3 ∧ b = N.2.2 400 m 0 ∧ s + 1 ≤ i ∧ i < 32 then bz (¬ (fm_sI N 3 (N.2.2 400 m 0) s _).1 3 (N.2.2 400 m 0) i = 0 ∨ (¬ (fm_sI N 3 (N.2.2 400 m 0) s _).1 3 (N.2.2 399 m 0) i = 0 ∧ (fm_sI N 3 (N.2.2 400 m 0) s _).1 3 (N.2.2 401 m 0) i = 0)) else (fm_sI N 3 (N.2.2 400 m 0) s _).1 f b i) = _
    by_cases z : f = 3 ∧ b = N.2.2 400 m 0 ∧ s + 1 ≤ i ∧ i < 32
    · rw [if_pos z, if_pos ⟨z.1, z.2.1, by omega, z.2.2.2⟩, r0 _ i (Or.inr (by omega)), r0 _ i (Or.inl d1), r0 _ i (Or.inl d3.symm)]
    · rw [if_neg z, rI]
      by_cases y : f = 3 ∧ b = N.2.2 400 m 0 ∧ i = s
      · rw [if_pos y, if_pos ⟨y.1, y.2.1, by omega, by omega⟩, y.2.2]
      · rw [if_neg y, if_neg (by omega)]
end Sg
