/-! the signals: the component's parts beside each other -/
set_option maxRecDepth 100000
/-- the unit as it is seen: the component's, the twin's, what holds -/
def VUc (s p : Nat) (M : FM) (soft : Nat → Int32) (num : Nat → Int64) (K : Kr) (S : Sr) : Prop :=
  VTc (M.2.2 240 s 0) p M soft num ∧ VKc (M.2.2 241 s 0) M K ∧ M.1 223 (M.2.2 241 s 0) 0 = nI (2 * p) ∧ VSc (M.2.2 242 s 0) M S ∧
  M.2.2 3 (M.2.2 243 s 0) 0 = M.2.2 240 s 0 ∧ M.2.2 3 (M.2.2 243 s 0) 1 = M.2.2 241 s 0 ∧ M.2.2 3 (M.2.2 243 s 0) 2 = M.2.2 242 s 0
def VUt (m p : Nat) (M : FM) (soft : Nat → Int32) (num : Nat → Int64) (K : Kr) (S : Sr) : Prop := VTt m p M soft num ∧ VKt m M K ∧ VSt m M S
def VUi (B p : Nat) (soft : Nat → Int32) (K : Kr) (S : Sr) : Prop := 1 ≤ p ∧ p ≤ 4 ∧ (∀ h, h < 4 → soft h = 0 ∨ soft h = 1) ∧ VKi K ∧ VSi B S ∧ (ib K.1 10 = true ↔ ¬ cs S = Int32.ofInt 1)
section Sg
variable {s p t C L : Nat} {M M' : FM} {K : Kr} {S : Sr} {soft : Nat → Int32} {num : Nat → Int64}
theorem vkc_tr (h2 : M'.2.2 = M.2.2) (h1 : ∀ b i, (b = M.2.2 224 C 0 ∨ b = M.2.2 225 C 0 ∨ b = M.2.2 226 C 0) → M'.1 3 b i = M.1 3 b i) (h0 : ∀ f, 227 ≤ f → f ≤ 229 → M'.1 f C 0 = M.1 f C 0) (V : VKc C M K) : VKc C M' K := by
  obtain ⟨v1, v2, v3, v4, v5, v6⟩ := V
  unfold VKc
  rw [h2, h0 227 (by decide) (by decide), h0 228 (by decide) (by decide), h0 229 (by decide) (by decide)]
  exact ⟨v1, v2, v3, fun s hs => (h1 _ s (by simp)).trans (v4 s hs), fun s hs => (h1 _ s (by simp)).trans (v5 s hs), fun s hs => (h1 _ s (by simp)).trans (v6 s hs)⟩
theorem vsc_tr (h2 : M'.2.2 = M.2.2) (h1 : ∀ b i, (b = M.2.2 230 L 0 ∨ b = M.2.2 233 L 0 ∨ b = M.2.2 235 L 0) → M'.1 3 b i = M.1 3 b i) (h0 : ∀ f, 231 ≤ f → f ≤ 238 → M'.1 f L 0 = M.1 f L 0) (hL : M'.2.1 234 L 0 = M.2.1 234 L 0) (V : VSc L M S) : VSc L M' S := by
  obtain ⟨v1, v2, ⟨hd, b1, b2, b3⟩, v4, v5, v6, v7, v8⟩ := V
  unfold VSc
  rw [h2, hL, h0 232 (by decide) (by decide), h0 231 (by decide) (by decide), h0 236 (by decide) (by decide), h0 237 (by decide) (by decide), h0 238 (by decide) (by decide)]
  exact ⟨fun s hs => (h1 _ s (by simp)).trans (v1 s hs), v2, ⟨hd, b1, b2, fun i hi => (h1 _ _ (by simp)).trans (b3 i hi)⟩, v4, v5, v6, fun s hs => by rw [h1 _ s (by simp)]; exact v7 s hs, v8⟩
theorem vtc_tr (h2 : M'.2.2 = M.2.2) (h1 : ∀ i, M'.1 3 (M.2.2 245 t 0) i = M.1 3 (M.2.2 245 t 0) i) (h0 : M'.1 244 t 0 = M.1 244 t 0) (h3 : ∀ i, M'.2.1 3 (M.2.2 246 t 0) i = M.2.1 3 (M.2.2 246 t 0) i) (V : VTc t p M soft num) : VTc t p M' soft num := by
  obtain ⟨v1, v2, v3⟩ := V
  unfold VTc
  rw [h2]
  exact ⟨h0.trans v1, fun h hh => (h1 h).trans (v2 h hh), fun k hk => (h3 k).trans (v3 k hk)⟩
theorem c_rows (T : Ty M) (W : Wf M) (nt : fm_is M 80 80 t = true) (nC : fm_is M 77 77 C = true) (nL : fm_is M 78 78 L = true) :
    (∀ b, (b = M.2.2 224 C 0 ∨ b = M.2.2 225 C 0 ∨ b = M.2.2 226 C 0) → b ≠ M.2.2 230 L 0 ∧ b ≠ M.2.2 233 L 0 ∧ b ≠ M.2.2 235 L 0 ∧ b ≠ M.2.2 245 t 0 ∧ b ≠ L) ∧
    (∀ b, (b = M.2.2 230 L 0 ∨ b = M.2.2 233 L 0 ∨ b = M.2.2 235 L 0) → b ≠ M.2.2 245 t 0 ∧ b ≠ C) ∧ (M.2.2 245 t 0 ≠ L ∧ M.2.2 245 t 0 ≠ C) ∧ (t ≠ C ∧ t ≠ L ∧ C ≠ L) ∧ (M.2.2 246 t 0 ≠ L ∧ ∀ b, (b = M.2.2 230 L 0 ∨ b = M.2.2 233 L 0 ∨ b = M.2.2 235 L 0) → M.2.2 246 t 0 ≠ b) := by
  have a45 := tN_245 T.1 nt
  have a46 := tN_246 T.1 nt
  have a30 := tN_230 T.1 nL
  have a33 := tN_233 T.1 nL
  have a35 := tN_235 T.1 nL
  have s45 : Sf M (M.2.2 245 t 0) 245 := W.2.1.1 (80, 80, 245, 245) (by decide) t nt
  have s30 : Sf M (M.2.2 230 L 0) 230 := W.2.1.1 (78, 78, 230, 230) (by decide) L nL
  have s33 : Sf M (M.2.2 233 L 0) 233 := W.2.1.1 (78, 78, 233, 233) (by decide) L nL
  have s35 : Sf M (M.2.2 235 L 0) 235 := W.2.1.1 (78, 78, 235, 235) (by decide) L nL
  have s24 : Sf M (M.2.2 224 C 0) 224 := W.2.1.1 (77, 77, 224, 224) (by decide) C nC
  have s25 : Sf M (M.2.2 225 C 0) 225 := W.2.1.1 (77, 77, 225, 225) (by decide) C nC
  have s26 : Sf M (M.2.2 226 C 0) 226 := W.2.1.1 (77, 77, 226, 226) (by decide) C nC
  refine ⟨fun b hb => ?_, fun b hb => ?_, ⟨nis a45 nL (by decide), nis a45 nC (by decide)⟩, ⟨nis nt nC (by decide), nis nt nL (by decide), nis nC nL (by decide)⟩, nis a46 nL (by decide), fun b hb => ?_⟩
  · rcases hb with rfl | rfl | rfl
    · have x := tN_224 T.1 nC
      exact ⟨site_ne W s24 s30 (by decide) (fm_ist rfl x), site_ne W s24 s33 (by decide) (fm_ist rfl x), site_ne W s24 s35 (by decide) (fm_ist rfl x), site_ne W s24 s45 (by decide) (fm_ist rfl x), nis x nL (by decide)⟩
    · have x := tN_225 T.1 nC
      exact ⟨site_ne W s25 s30 (by decide) (fm_ist rfl x), site_ne W s25 s33 (by decide) (fm_ist rfl x), site_ne W s25 s35 (by decide) (fm_ist rfl x), site_ne W s25 s45 (by decide) (fm_ist rfl x), nis x nL (by decide)⟩
    · have x := tN_226 T.1 nC
      exact ⟨site_ne W s26 s30 (by decide) (fm_ist rfl x), site_ne W s26 s33 (by decide) (fm_ist rfl x), site_ne W s26 s35 (by decide) (fm_ist rfl x), site_ne W s26 s45 (by decide) (fm_ist rfl x), nis x nL (by decide)⟩
  · rcases hb with rfl | rfl | rfl
    · exact ⟨site_ne W s30 s45 (by decide) (fm_ist rfl a30), nis a30 nC (by decide)⟩
    · exact ⟨site_ne W s33 s45 (by decide) (fm_ist rfl a33), nis a33 nC (by decide)⟩
    · exact ⟨site_ne W s35 s45 (by decide) (fm_ist rfl a35), nis a35 nC (by decide)⟩
  · rcases hb with rfl | rfl | rfl
    · exact nis a46 a30 (by decide)
    · exact nis a46 a33 (by decide)
    · exact nis a46 a35 (by decide)
theorem frS_k (T : Ty M) (W : Wf M) (nt : fm_is M 80 80 t = true) (nC : fm_is M 77 77 C = true) (nL : fm_is M 78 78 L = true) (F : FrS L M M') (V : VKc C M K) : VKc C M' K := by
  obtain ⟨r1, r2, r3, ⟨r4, r5, r6⟩, r7⟩ := c_rows T W nt nC nL
  refine vkc_tr F.1 (fun b i hb => (F.2 3 b i ?_).1) (fun f h1 h2 => (F.2 f C 0 ?_).1) V
  · obtain ⟨x1, x2, x3, x4, x5⟩ := r1 b hb
    rintro (⟨q, _⟩ | ⟨_, q | q | q⟩)
    · exact x5 q
    · exact x1 q
    · exact x2 q
    · exact x3 q
  · rintro (⟨q, _⟩ | ⟨q, _⟩)
    · exact r6 q
    · omega
theorem frS_23 (T : Ty M) (W : Wf M) (nt : fm_is M 80 80 t = true) (nC : fm_is M 77 77 C = true) (nL : fm_is M 78 78 L = true) (F : FrS L M M') : M'.1 223 C 0 = M.1 223 C 0 := (F.2 223 C 0 (by
    obtain ⟨r1, r2, r3, ⟨r4, r5, r6⟩, r7⟩ := c_rows T W nt nC nL
    rintro (⟨q, _⟩ | ⟨q, _⟩)
    · exact r6 q
    · omega)).1
theorem frS_tm (T : Ty M) (W : Wf M) (nt : fm_is M 80 80 t = true) (nC : fm_is M 77 77 C = true) (nL : fm_is M 78 78 L = true) (F : FrS L M M') (V : VTc t p M soft num) : VTc t p M' soft num := by
  obtain ⟨r1, r2, ⟨r3, r3'⟩, ⟨r4, r5, r6⟩, r7, r8⟩ := c_rows T W nt nC nL
  refine vtc_tr F.1 (fun i => (F.2 3 _ i ?_).1) ((F.2 244 t 0 ?_).1) (fun i => (F.2 3 _ i ?_).2) V
  · rintro (⟨q, _⟩ | ⟨_, q⟩)
    · exact r3 q
    · exact (r2 _ q).1 rfl
  · rintro (⟨q, _⟩ | ⟨q, _⟩)
    · exact r5 q
    · omega
  · rintro (⟨q, _⟩ | ⟨_, q⟩)
    · exact r7 q
    · exact r8 _ q rfl
theorem frC_s (T : Ty M) (W : Wf M) (nt : fm_is M 80 80 t = true) (nC : fm_is M 77 77 C = true) (nL : fm_is M 78 78 L = true) (F : FrC C M M') (V : VSc L M S) : VSc L M' S := by
  obtain ⟨r1, r2, ⟨r3, r3'⟩, ⟨r4, r5, r6⟩, r7, r8⟩ := c_rows T W nt nC nL
  refine vsc_tr F.1 (fun b i hb => F.2.1 3 b i ?_) (fun f h1 h2 => F.2.1 f L 0 ?_) (by rw [F.2.2]) V
  · rintro (⟨q, _⟩ | ⟨_, q⟩)
    · exact (r2 b hb).2 q
    · obtain ⟨x1, x2, x3, _⟩ := r1 b q
      rcases hb with e | e | e
      · exact x1 e
      · exact x2 e
      · exact x3 e
  · rintro (⟨q, _⟩ | ⟨q, _⟩)
    · exact r6 q.symm
    · omega
theorem frC_tm (T : Ty M) (W : Wf M) (nt : fm_is M 80 80 t = true) (nC : fm_is M 77 77 C = true) (nL : fm_is M 78 78 L = true) (F : FrC C M M') (V : VTc t p M soft num) : VTc t p M' soft num := by
  obtain ⟨r1, r2, ⟨r3, r3'⟩, ⟨r4, r5, r6⟩, r7, r8⟩ := c_rows T W nt nC nL
  refine vtc_tr F.1 (fun i => F.2.1 3 _ i ?_) (F.2.1 244 t 0 ?_) (fun i => by rw [F.2.2]) V
  · rintro (⟨q, _⟩ | ⟨_, q⟩)
    · exact r3' q
    · exact (r1 _ q).2.2.2.1 rfl
  · rintro (⟨q, _⟩ | ⟨q, _⟩)
    · exact r4 q
    · omega
/-- the component looks at the line's cause -/
theorem X30_look {B : Nat} (T : Ty M) (n : fm_is M 79 79 s = true) (V : VKc (M.2.2 241 s 0) M K) (VS : VSc (M.2.2 242 s 0) M S) (IS : VSi B S) :
    ∃ M', (HX30_look s M ∧ GX30_look s M = M') ∧ VKc (M.2.2 241 s 0) M' (kSe (¬ cs S = Int32.ofInt 1) K) ∧ FrC (M.2.2 241 s 0) M M' := by
  obtain ⟨c1, c2⟩ := X31_cause T (tN_242 T.1 n) VS IS
  obtain ⟨v1, v2, v3, v4, v5, v6⟩ := V
  generalize hC : M.2.2 241 s 0 = C at *
  have eG : ∀ P : Prop, GX33_signal C (Int32.ofInt 10) (bz P) M = fm_sI (fm_sI M 227 C 0 (fi P (K.1 ||| b1 10) (off1 K.1 10))) 228 C 0 (K.2.1 ||| (fi P (K.1 ||| b1 10) (off1 K.1 10) &&& (K.2.2.1 ^^^ Int32.ofInt (-1)))) := fun P => by
    have e26 : ∀ x, GX33_signal_26 C C x M = fm_sI (fm_sI M 227 C 0 x) 228 C 0 (K.2.1 ||| (x &&& (K.2.2.1 ^^^ Int32.ofInt (-1)))) := fun x => by
      unfold GX33_signal_26 GX33_look GX33_look_0
      dsimp only
      rw [show (fm_sI M 227 C 0 x).1 228 C 0 = K.2.1 from (rIf (by decide)).trans v2, show (fm_sI M 227 C 0 x).1 227 C 0 = x by rw [rI, if_pos ⟨rfl, rfl, rfl⟩], show (fm_sI M 227 C 0 x).1 229 C 0 = K.2.2.1 from (rIf (by decide)).trans v3]
    unfold GX33_signal GX33_signal_0
    rw [fi_bz, e26, e26, v1]
    by_cases h : P
    · rw [fi_pos h, fi_pos h]
      rfl
    · rw [fi_neg h, fi_neg h]
      rfl
  refine ⟨_, ⟨⟨c1, trivial⟩, rfl⟩, ?_⟩
  have e : GX30_look s M = fm_sI (fm_sI M 227 C 0 (fi (¬ cs S = Int32.ofInt 1) (K.1 ||| b1 10) (off1 K.1 10))) 228 C 0 (K.2.1 ||| (fi (¬ cs S = Int32.ofInt 1) (K.1 ||| b1 10) (off1 K.1 10) &&& (K.2.2.1 ^^^ Int32.ofInt (-1)))) := by
    unfold GX30_look GX30_look_0
    dsimp only
    rw [c2]
    dsimp only
    rw [hC, fi_not, fi_F (F := fun z => GX30_look_22 C (Int32.ofInt 10) z M)]
    exact eG _
  rw [e]
  refine ⟨⟨?_, ?_, ?_, v4, v5, v6⟩, frC_I (frC_I (frC_r C M) (by decide)) (by decide)⟩
  · rw [rIf (by decide), rI, if_pos ⟨rfl, rfl, rfl⟩]
    rfl
  · rw [rI, if_pos ⟨rfl, rfl, rfl⟩]
    rfl
  · rw [rIf (by decide), rIf (by decide)]
    exact v3
end Sg
