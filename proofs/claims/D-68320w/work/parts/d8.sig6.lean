/-! the signals: writes -/
set_option maxRecDepth 100000
def updL (g : Nat → Int64) (k : Nat) (v : Int64) : Nat → Int64 := fun j => if j = k then v else g j
noncomputable def tWs (p n : Nat) (z : Int32) (v : Int64) (soft : Nat → Int32) (num : Nat → Int64) : (Nat → Int32) × (Nat → Int64) := match wh p n with
  | some k => (soft, fi (z = Int32.ofInt 8 ∧ n % 8 = 0) (updL num k v) (fi (z = Int32.ofInt 4 ∧ n % 4 = 0) (updL num k (hN n (num k) v)) num))
  | none => (fi (z = Int32.ofInt 4 ∧ n % 4 = 0 ∧ n < 4 * p) (updS soft (n / 4) (v.toInt32 &&& Int32.ofInt 1)) soft, num)
def FrM (t : Nat) (M M' : FM) : Prop := M'.2.2 = M.2.2 ∧ (∀ f b i, ¬ (f = 3 ∧ b = M.2.2 245 t 0) → M'.1 f b i = M.1 f b i) ∧ (∀ f b i, ¬ (f = 3 ∧ b = M.2.2 246 t 0) → M'.2.1 f b i = M.2.1 f b i)
def FrN (m : Nat) (M M' : FM) : Prop := M'.2.2 = M.2.2 ∧ (∀ f b i, ¬ (f = 3 ∧ b = M.2.2 396 m 0) → M'.1 f b i = M.1 f b i) ∧ (∀ f b i, ¬ (f = 398 ∧ b = m) → ¬ (f = 3 ∧ b = M.2.2 397 m 0) → M'.2.1 f b i = M.2.1 f b i)
section Sg
variable {s m p B t C L : Nat} {M M' Mc Mt : FM} {K : Kr} {S : Sr} {soft : Nat → Int32} {num : Nat → Int64}
theorem vtc_w {n : Nat} {z : Int32} (V : VTc t p M soft num) (v : Int64) : VTc t p (tW t p n z v M) (tWs p n z v soft num).1 (tWs p n z v soft num).2 ∧ FrM t M (tW t p n z v M) := by
  obtain ⟨v1, v2, v3⟩ := V
  have rM : FrM t M M := ⟨rfl, fun _ _ _ _ => rfl, fun _ _ _ _ => rfl⟩
  have wl : ∀ k x, VTc t p (fm_sL M 3 (M.2.2 246 t 0) k x) soft (updL num k x) ∧ FrM t M (fm_sL M 3 (M.2.2 246 t 0) k x) := fun k x => by
    refine ⟨⟨v1, v2, fun j hj => ?_⟩, rfl, fun _ _ _ _ => rfl, fun f b i h => by rw [rL, if_neg (fun q => h ⟨q.1, q.2.1⟩)]⟩
    show (fm_sL M 3 (M.2.2 246 t 0) k x).2.1 3 (M.2.2 246 t 0) j = updL num k x j
    unfold updL
    rw [rL]
    by_cases e : j = k
    · rw [if_pos ⟨rfl, rfl, e⟩, if_pos e]
    · rw [if_neg (fun q => e q.2.2), if_neg e]
      exact v3 j hj
  unfold tW tWs
  cases hw : wh p n with
  | some k =>
    have hk : k < 5 ∨ 4 < p := by rcases wh_lt hw with e | e <;> omega
    dsimp only
    by_cases h8 : z = Int32.ofInt 8 ∧ n % 8 = 0
    · rw [fi_pos h8, fi_pos h8]
      exact wl k v
    · rw [fi_neg h8, fi_neg h8]
      by_cases h4 : z = Int32.ofInt 4 ∧ n % 4 = 0
      · rw [fi_pos h4, fi_pos h4]
        by_cases k5 : k < 5
        · rw [v3 k k5]
          exact wl k _
        · have : ∀ x y, (∀ j, j < 5 → updL num k x j = updL num k y j) := fun x y j hj => by
            unfold updL
            rw [if_neg (by omega), if_neg (by omega)]
          obtain ⟨⟨a1, a2, a3⟩, a4⟩ := wl k (hN n (M.2.1 3 (M.2.2 246 t 0) k) v)
          exact ⟨⟨a1, a2, fun j hj => (a3 j hj).trans (this _ _ j hj)⟩, a4⟩
      · rw [fi_neg h4, fi_neg h4]
        exact ⟨⟨v1, v2, v3⟩, rM⟩
  | none =>
    dsimp only
    by_cases h4 : z = Int32.ofInt 4 ∧ n % 4 = 0 ∧ n < 4 * p
    · rw [fi_pos h4, fi_pos h4]
      refine ⟨⟨by rw [rIf (by decide)]; exact v1, fun j hj => ?_, v3⟩, rfl, fun f b i h => by rw [rI, if_neg (fun q => h ⟨q.1, q.2.1⟩)], fun _ _ _ _ => rfl⟩
      show (fm_sI M 3 (M.2.2 245 t 0) (n / 4) _).1 3 (M.2.2 245 t 0) j = updS soft (n / 4) _ j
      unfold updS
      rw [rI]
      by_cases e : j = n / 4
      · rw [if_pos ⟨rfl, rfl, e⟩, if_pos e]
      · rw [if_neg (fun q => e q.2.2), if_neg e]
        exact v2 j hj
    · rw [fi_neg h4, fi_neg h4]
      exact ⟨⟨v1, v2, v3⟩, rM⟩
theorem vtt_w {n : Nat} {z : Int32} (T : Ty M) (nm : fm_is M 99 99 m = true) (hp : p ≤ 4) (V : VTt m p M soft num) (v : Int64) : VTt m p (tWt m p n z v M) (tWs p n z v soft num).1 (tWs p n z v soft num).2 ∧ FrN m M (tWt m p n z v M) := by
  obtain ⟨v1, v2, v3⟩ := V
  have d : M.2.2 397 m 0 ≠ m := nis (tN_397 T.1 nm) nm (by decide)
  have rM : FrN m M M := ⟨rfl, fun _ _ _ _ => rfl, fun _ _ _ _ _ => rfl⟩
  have wl : ∀ k x, VTt m p (tSe m k x M) soft (updL num k x) ∧ FrN m M (tSe m k x M) := fun k x => by
    unfold tSe
    by_cases e4 : k = 4
    · rw [if_pos e4]
      refine ⟨⟨v1, v2, fun j hj => ?_⟩, rfl, fun _ _ _ _ => rfl, fun f b i h1 h2 => by rw [rL, if_neg (fun q => h1 ⟨q.1, q.2.1⟩)]⟩
      unfold tNm updL
      show (if j = 4 then (fm_sL M 398 m 0 x).2.1 398 m 0 else (fm_sL M 398 m 0 x).2.1 3 (M.2.2 397 m 0) j) = _
      by_cases e : j = 4
      · rw [if_pos e, rL, if_pos ⟨rfl, rfl, rfl⟩, if_pos (by omega)]
      · rw [if_neg e, rL, if_neg (by omega), if_neg (by omega)]
        have := v3 j hj
        unfold tNm at this
        rw [if_neg e] at this
        exact this
    · rw [if_neg e4]
      refine ⟨⟨v1, v2, fun j hj => ?_⟩, rfl, fun _ _ _ _ => rfl, fun f b i h1 h2 => by rw [rL, if_neg (fun q => h2 ⟨q.1, q.2.1⟩)]⟩
      have := v3 j hj
      unfold tNm at this
      unfold tNm updL
      show (if j = 4 then (fm_sL M 3 (M.2.2 397 m 0) k x).2.1 398 m 0 else (fm_sL M 3 (M.2.2 397 m 0) k x).2.1 3 (M.2.2 397 m 0) j) = _
      by_cases e : j = 4
      · rw [if_pos e] at this ⊢
        rw [rL, if_neg (by omega), if_neg (by omega)]
        exact this
      · rw [if_neg e] at this ⊢
        rw [rL]
        by_cases ek : j = k
        · rw [if_pos ⟨rfl, rfl, ek⟩, if_pos ek]
        · rw [if_neg (fun q => ek q.2.2), if_neg ek]
          exact this
  unfold tWt tWs
  cases hw : wh p n with
  | some k =>
    have k5 : k < 5 := by rcases wh_lt hw with e | e <;> omega
    dsimp only
    by_cases h8 : z = Int32.ofInt 8 ∧ n % 8 = 0
    · rw [fi_pos h8, fi_pos h8]
      exact wl k v
    · rw [fi_neg h8, fi_neg h8]
      by_cases h4 : z = Int32.ofInt 4 ∧ n % 4 = 0
      · rw [fi_pos h4, fi_pos h4, v3 k k5]
        exact wl k _
      · rw [fi_neg h4, fi_neg h4]
        exact ⟨⟨v1, v2, v3⟩, rM⟩
  | none =>
    dsimp only
    by_cases h4 : z = Int32.ofInt 4 ∧ n % 4 = 0 ∧ n < 4 * p
    · rw [fi_pos h4, fi_pos h4]
      refine ⟨⟨by rw [rIf (by decide)]; exact v1, fun j hj => ?_, v3⟩, rfl, fun f b i h => by rw [rI, if_neg (fun q => h ⟨q.1, q.2.1⟩)], fun _ _ _ _ _ => rfl⟩
      show (fm_sI M 3 (M.2.2 396 m 0) (n / 4) _).1 3 (M.2.2 396 m 0) j = updS soft (n / 4) _ j
      unfold updS
      rw [rI]
      by_cases e : j = n / 4
      · rw [if_pos ⟨rfl, rfl, e⟩, if_pos e]
      · rw [if_neg (fun q => e q.2.2), if_neg e]
        exact v2 j hj
    · rw [fi_neg h4, fi_neg h4]
      exact ⟨⟨v1, v2, v3⟩, rM⟩
theorem tWs_01 {n : Nat} {z : Int32} {v : Int64} (h : ∀ h, h < 4 → soft h = 0 ∨ soft h = 1) : ∀ h, h < 4 → (tWs p n z v soft num).1 h = 0 ∨ (tWs p n z v soft num).1 h = 1 := by
  intro j hj
  unfold tWs
  cases wh p n with
  | some k => exact h j hj
  | none =>
    dsimp only
    by_cases q : z = Int32.ofInt 4 ∧ n % 4 = 0 ∧ n < 4 * p
    · rw [fi_pos q, odd_i]
      unfold updS
      by_cases e : j = n / 4
      · rw [if_pos e]
        exact bz_z _
      · rw [if_neg e]
        exact h j hj
    · rw [fi_neg q]
      exact h j hj
theorem frM_k (T : Ty M) (W : Wf M) (nt : fm_is M 80 80 t = true) (nC : fm_is M 77 77 C = true) (nL : fm_is M 78 78 L = true) (F : FrM t M M') (V : VKc C M K) : VKc C M' K := by
  obtain ⟨r1, r2, ⟨r3, r3'⟩, ⟨r4, r5, r6⟩, r7, r8⟩ := c_rows T W nt nC nL
  exact vkc_tr F.1 (fun b i hb => F.2.1 3 b i (fun q => (r1 b hb).2.2.2.1 q.2)) (fun f h1 h2 => F.2.1 f C 0 (by omega)) V
theorem frM_s (T : Ty M) (W : Wf M) (nt : fm_is M 80 80 t = true) (nC : fm_is M 77 77 C = true) (nL : fm_is M 78 78 L = true) (F : FrM t M M') (V : VSc L M S) : VSc L M' S := by
  obtain ⟨r1, r2, ⟨r3, r3'⟩, ⟨r4, r5, r6⟩, r7, r8⟩ := c_rows T W nt nC nL
  exact vsc_tr F.1 (fun b i hb => F.2.1 3 b i (fun q => (r2 b hb).1 q.2)) (fun f h1 h2 => F.2.1 f L 0 (by omega)) (F.2.2 234 L 0 (by omega)) V
theorem frN_k (T : Ty M) (W : Wf M) (n : fm_is M 99 99 m = true) (F : FrN m M M') (V : VKt m M K) : VKt m M' K := by
  obtain ⟨r1, r2, r3⟩ := t_rows T W n
  exact vkt_tr F.1 (fun b i hb => F.2.1 3 b i (fun q => (r1 b hb).2.2.2.2 q.2)) V
theorem frN_s (T : Ty M) (W : Wf M) (n : fm_is M 99 99 m = true) (F : FrN m M M') (V : VSt m M S) : VSt m M' S := by
  obtain ⟨r1, ⟨q1, q2, q3, q4⟩, r3⟩ := t_rows T W n
  refine vst_tr F.1 (fun b i hb => F.2.1 3 b i (fun q => ?_)) (fun f h1 h2 => F.2.1 f m 0 (by omega)) (F.2.2 413 m 0 (by omega) (by omega)) V
  rcases hb with e | e | e | e
  · exact q1 (q.2.symm.trans e)
  · exact q2 (q.2.symm.trans e)
  · exact q3 (q.2.symm.trans e)
  · exact q4 (q.2.symm.trans e)
theorem wf_frM (T : Ty M) (W : Wf M) (n : fm_is M 80 80 t = true) (F : FrM t M M') : Wf M' := wf_num W F.1 (fun a ha f i => ⟨F.2.1 f a i (by
  rintro ⟨_, q⟩
  rw [q] at ha; exact fm_ist rfl (tN_245 T.1 n) ha), F.2.2 f a i (by
  rintro ⟨_, q⟩
  rw [q] at ha; exact fm_ist rfl (tN_246 T.1 n) ha)⟩)
theorem wf_frN (T : Ty M) (W : Wf M) (n : fm_is M 99 99 m = true) (F : FrN m M M') : Wf M' := wf_num W F.1 (fun a ha f i => ⟨F.2.1 f a i (by
  rintro ⟨_, q⟩
  rw [q] at ha; exact fm_ist rfl (tN_396 T.1 n) ha), F.2.2 f a i (by
  rintro ⟨_, q⟩
  rw [q] at ha; exact fm_ist rfl n ha) (by
  rintro ⟨_, q⟩
  rw [q] at ha; exact fm_ist rfl (tN_397 T.1 n) ha)⟩)
/-- the look at once changes nothing that the look behind does not -/
theorem kSe_lk {z : Prop} {K : Kr} (h : ib K.1 10 = true ↔ z) : kSe z (kLk K) = kSe z K := by
  have e : fi z (K.1 ||| b1 10) (off1 K.1 10) = K.1 := by
    apply ib_ext
    intro i hi
    have := ib_sg z K.1 hi
    by_cases q : i = 10
    · rw [if_pos q] at this
      rw [q] at this ⊢
      cases h1 : ib (fi z (K.1 ||| b1 10) (off1 K.1 10)) 10 with
      | true => exact (h.mpr (this.mp h1)).symm
      | false =>
        cases h2 : ib K.1 10 with
        | false => rfl
        | true =>
          rw [this.mpr (h.mp h2)] at h1
          cases h1
    · rw [if_neg q] at this
      cases h1 : ib (fi z (K.1 ||| b1 10) (off1 K.1 10)) i with
      | true => exact (this.mp h1).symm
      | false =>
        cases h2 : ib K.1 i with
        | false => rfl
        | true =>
          rw [this.mpr h2] at h1
          cases h1
  unfold kSe
  rw [show (kLk K).1 = K.1 from rfl, e]
  unfold kLk
  dsimp only
  congr 2
  apply ib_ext
  intro i hi
  rw [ib_or, ib_or, ib_and, ib_not _ hi]
  cases ib K.2.1 i <;> cases ib K.1 i <;> cases ib K.2.2.1 i <;> rfl
theorem kWr_C {z : Prop} {n : Nat} {v : Int64} {K : Kr} (h : ib K.1 10 = true ↔ z) : kSe z (kWr kCmC p n v K) = kSe z (kWr kCm p n v K) := by
  unfold kWr
  split
  · rfl
  · split
    · rfl
    · split
      · rfl
      · split
        · rename_i c _
          unfold kCmC kCm
          split
          · exact kSe_lk (K := (K.1, K.2.1, off1 K.2.2.1 (ul v % 4294967296), K.2.2.2)) h
          · rfl
        · rfl
theorem vki_wr {n : Nat} {v : Int64} (I : VKi K) : VKi (kWr kCm p n v K) ∧ (kWr kCm p n v K).1 = K.1 := by
  unfold kWr
  split
  · exact ⟨I, rfl⟩
  · split
    · exact ⟨I, rfl⟩
    · split
      · exact ⟨I, rfl⟩
      · split
        · unfold kCm
          split
          · rename_i h
            refine ⟨⟨I.1, I.2.1, fun s => ?_⟩, rfl⟩
            rintro ⟨x1, x2⟩
            have y2 : ib (off1 K.2.2.1 (ul v % 4294967296)) s = true := x2
            by_cases hs : s < 32
            · rw [ib_off h.2.1 hs] at y2
              simp at y2
              exact I.2.2 s ⟨x1, y2.1⟩
            · rw [ib_ge _ (by omega)] at y2
              cases y2
          · exact ⟨I, rfl⟩
        · exact ⟨I, rfl⟩
end Sg
