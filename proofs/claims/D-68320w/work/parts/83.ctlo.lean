/-! control registers: reset -/
set_option maxRecDepth 100000
noncomputable def rz (H : Nat) (M : FM) (j : Nat) : FM := (M.1, (fun f a i => if f = 3 ∧ a = H ∧ i < j then Int64.ofInt 0 else M.2.1 f a i), M.2.2)
theorem rz_0 (H : Nat) (M : FM) : rz H M 0 = M := by
  refine Prod.ext rfl (Prod.ext ?_ rfl)
  funext f a i
  exact if_neg (fun z => absurd z.2.2 (Nat.not_lt_zero _))
theorem rz_s (H : Nat) (M : FM) (j : Nat) : fm_sL (rz H M j) 3 H j (Int64.ofInt 0) = rz H M (j + 1) := by
  refine Prod.ext rfl (Prod.ext ?_ rfl)
  funext f a i
  show (if f = 3 ∧ a = H ∧ i = j then Int64.ofInt 0 else (if f = 3 ∧ a = H ∧ i < j then Int64.ofInt 0 else M.2.1 f a i)) = (if f = 3 ∧ a = H ∧ i < j + 1 then Int64.ofInt 0 else M.2.1 f a i)
  by_cases h : f = 3 ∧ a = H
  · by_cases q : i = j
    · rw [if_pos ⟨h.1, h.2, q⟩, if_pos ⟨h.1, h.2, by omega⟩]
    · rw [if_neg (fun z => q z.2.2)]
      by_cases l : i < j
      · rw [if_pos ⟨h.1, h.2, l⟩, if_pos ⟨h.1, h.2, by omega⟩]
      · rw [if_neg (fun z => l z.2.2), if_neg (fun z => by have := z.2.2; omega)]
  · rw [if_neg (fun z => h ⟨z.1, z.2.1⟩), if_neg (fun z => h ⟨z.1, z.2.1⟩), if_neg (fun z => h ⟨z.1, z.2.1⟩)]
section Rs
variable {u d n p : Nat} {k : Int32} {Mc Mt M : FM}
noncomputable def rsT (d : Nat) (M : FM) : FM := fm_sL (fm_sL (fm_sI (rz (M.2.2 361 d 0) M 4096) 360 d 0 (Int32.ofInt 3)) 364 d 0 (Int64.ofInt 0)) 365 d 0 (Int64.ofInt 0)
theorem t_rsL (T : Ty M) (nd : fm_is M 95 95 d = true) : ∀ m j, m < j → m ≤ 4096 → FX100_reset_L2 fN j d (nI (4096 - m)) (rz (M.2.2 361 d 0) M (4096 - m)) = some (rsT d M) := by
  intro m
  induction m with
  | zero =>
    intro j hj hm
    obtain ⟨j, rfl⟩ : ∃ i, j = i + 1 := ⟨j - 1, by omega⟩
    show FX100_reset_2 fN (FX100_reset_L2 fN j) _ _ _ = _
    have h : Int32.ofInt 4096 ≤ nI (4096 - 0) := by decide
    rw [(gX100_reset_2 _ _ _ (rz (M.2.2 361 d 0) M (4096 - 0)) ⟨T.1, T.2⟩ nd ⟨fun _ => trivial, fun q => absurd h q⟩).1]
    unfold GX100_reset_2
    rw [fi_pos h]
    rfl
  | succ m ih =>
    intro j hj hm
    obtain ⟨j, rfl⟩ : ∃ i, j = i + 1 := ⟨j - 1, by omega⟩
    have hle : ¬ Int32.ofInt 4096 ≤ nI (4096 - (m + 1)) := by
      rw [i_le (by decide) (by rw [ui_nI]; omega), ui_nI]
      show ¬ 4096 ≤ _
      omega
    have up : nI (4096 - (m + 1)) + Int32.ofInt 1 = nI (4096 - m) := by
      apply ui_inj
      rw [ui_add, ui_nI, ui_nI, show ui (Int32.ofInt 1) = 1 from rfl]
      omega
    have hin : fm_in (rz (M.2.2 361 d 0) M (4096 - (m + 1))) (M.2.2 361 d 0) (nI (4096 - (m + 1))) = true := h361 T nd (by rw [ui_nI]; omega)
    show FX100_reset_2 fN (FX100_reset_L2 fN j) _ _ _ = _
    rw [(gX100_reset_2 _ _ _ (rz (M.2.2 361 d 0) M (4096 - (m + 1))) ⟨T.1, T.2⟩ nd ⟨fun q => absurd q hle, fun _ => ⟨hin, trivial⟩⟩).1]
    unfold GX100_reset_2
    rw [fi_neg hle]
    dsimp only
    rw [nI_clamp (by omega), up]
    show FX100_reset_L2 fN j d (nI (4096 - m)) (fm_sL (rz (M.2.2 361 d 0) M (4096 - (m + 1))) 3 (M.2.2 361 d 0) (4096 - (m + 1)) (Int64.ofInt 0)) = _
    rw [rz_s, show 4096 - (m + 1) + 1 = 4096 - m by omega]
    exact ih j (by omega) (by omega)
theorem t_reset (T : Ty M) (nd : fm_is M 95 95 d = true) : HX100_reset d M ∧ GX100_reset d M = rsT d M := by
  have k1 : FX100_reset fN d M = some (rsT d M) := by
    show FX100_reset_0 fN (FX100_reset_L2 fN fN) d M = _
    rw [(gX100_reset_0 _ _ M T).1]
    show FX100_reset_L2 fN fN d (nI 0) M = _
    have h := t_rsL T nd 4096 fN (by unfold fN; omega) (Nat.le_refl _)
    rw [show 4096 - 4096 = 0 from rfl, rz_0] at h
    exact h
  exact op_of (P := OkV M) (d := M) k1 ⟨⟨T.1, (tyb_sI (f := 360) rfl (M := rz (M.2.2 361 d 0) M 4096) T.2)⟩, ext_r _⟩
def Zl (L : List Nat) (M : FM) : Prop := ∀ x, x ∈ L → M.2.1 41 x 0 = Int64.ofInt 0
noncomputable def w0 (x : Nat) (M : FM) : FM := fm_sL M 41 x 0 (Int64.ofInt 0)
def Zc (u : Nat) (L : List Nat) (M0 M : FM) : Prop := CW u M0 M ∧ Zl L M
theorem zc_w {L : List Nat} {M0 N : FM} (h : Zc u L M0 N) {n s : Nat} (hn : cN n) (hs : s = tbl M0 u n) : Zc u (tbl M0 u n :: L) M0 (w0 s N) := by
  rw [← hs]
  refine ⟨?_, fun x hx => ?_⟩
  · have e : s = tbl N u n := by rw [hs]; unfold tbl; rw [h.1.1]
    rw [e]
    exact cw_t h.1 (cw_w hn _)
  · unfold w0
    rw [rL]
    by_cases q : x = s
    · rw [if_pos ⟨rfl, q, rfl⟩]
    · rw [if_neg (fun z => q z.2.1)]
      rcases List.mem_cons.mp hx with e | e
      · exact absurd e q
      · exact h.2 x e
noncomputable def rsC (u : Nat) (M : FM) : FM :=
  let a := w0 (M.2.2 3 (M.2.2 25 u 0) 384) (w0 (M.2.2 35 u 0) (w0 (M.2.2 34 u 0) (w0 (M.2.2 31 u 0) (w0 (M.2.2 30 u 0) (w0 (M.2.2 29 u 0) (w0 (M.2.2 28 u 0) (w0 (M.2.2 27 u 0) M)))))))
  let b := w0 (M.2.2 54 (M.2.2 32 u 0) 0) (w0 (M.2.2 53 (M.2.2 32 u 0) 0) (w0 (M.2.2 52 (M.2.2 32 u 0) 0) (w0 (M.2.2 51 (M.2.2 32 u 0) 0) (w0 (M.2.2 50 (M.2.2 32 u 0) 0) (w0 (M.2.2 49 (M.2.2 32 u 0) 0) a)))))
  let c := w0 (M.2.2 54 (M.2.2 33 u 0) 0) (w0 (M.2.2 53 (M.2.2 33 u 0) 0) (w0 (M.2.2 52 (M.2.2 33 u 0) 0) (w0 (M.2.2 51 (M.2.2 33 u 0) 0) (w0 (M.2.2 50 (M.2.2 33 u 0) 0) (w0 (M.2.2 49 (M.2.2 33 u 0) 0) b)))))
  fm_sI c 37 u 0 (Int32.ofInt 3)
theorem c_reset : GX46_resetControls p M = rsC (M.2.2 213 p 0) M := rfl
theorem rel_reset (R : RelC u d k Mc Mt) (Tp : Ty (rsC u Mc)) : HX100_reset d Mt ∧ RelC u d k (rsC u Mc) (GX100_reset d Mt) := by
  have R0 := R
  obtain ⟨⟨Tc, nu, S, K⟩, ⟨Tt, nd, ⟨z1, z2⟩, I⟩, v1, vl, vm, vc⟩ := R
  obtain ⟨h1, h2⟩ := t_reset Tt nd
  refine ⟨h1, ?_⟩
  have Tt' := (gX100_reset d Mt h1).2.1
  rw [h2] at Tt' ⊢
  have S0 := S
  obtain ⟨s1, s2, ⟨e27, e28, e29, e30, e31, e34, e35⟩, ⟨b49, b54, b50, b51, b52, b53⟩, ⟨c49, c54, c50, c51, c52, c53⟩, -⟩ := S
  have q0 : Zc u [] Mc Mc := ⟨cw_r, fun x hx => by cases hx⟩
  have q8 := zc_w (zc_w (zc_w (zc_w (zc_w (zc_w (zc_w (zc_w q0 cn_768 e27) (cn_of (n := 770) rfl) e28) (cn_of (n := 771) rfl) e29) (cn_of (n := 772) rfl) e30) (cn_of (n := 836) rfl) e31) (cn_of (n := 2816) rfl) e34) (cn_of (n := 2818) rfl) e35) (cn_of (n := 384) rfl) rfl
  have q14 := zc_w (zc_w (zc_w (zc_w (zc_w (zc_w q8 (cn_of (n := 773) rfl) b49) (cn_of (n := 832) rfl) b50) (cn_of (n := 833) rfl) b51) (cn_of (n := 834) rfl) b52) (cn_of (n := 835) rfl) b53) (cn_of (n := 774) rfl) b54
  have q20 := zc_w (zc_w (zc_w (zc_w (zc_w (zc_w q14 (cn_of (n := 261) rfl) c49) (cn_of (n := 320) rfl) c50) (cn_of (n := 321) rfl) c51) (cn_of (n := 322) rfl) c52) (cn_of (n := 323) rfl) c53) (cn_of (n := 262) rfl) c54
  have hc : CW u Mc (rsC u Mc) := cw_t q20.1 (cw_m _)
  have hh : ∀ n, n < 4096 → ht (rsT d Mt) d n = Int64.ofInt 0 := fun n hn => by
    show (rsT d Mt).2.1 3 (Mt.2.2 361 d 0) n = _
    unfold rsT
    rw [rLf (by decide), rLf (by decide)]
    exact if_pos ⟨rfl, rfl, hn⟩
  have ht' : TW d Mt (rsT d Mt) := by
    refine ⟨rfl, fun f b i h => ?_, fun f b i h g => ?_⟩
    · show (fm_sI (rz (Mt.2.2 361 d 0) Mt 4096) 360 d 0 (Int32.ofInt 3)).1 f b i = _
      rw [rI, if_neg (fun z => h ⟨z.2.1, Or.inr z.1⟩)]
      rfl
    · unfold rsT
      rw [rL, if_neg (fun z => h ⟨z.2.1, Or.inr z.1⟩), rL, if_neg (fun z => h ⟨z.2.1, Or.inl z.1⟩)]
      exact if_neg (fun z => g ⟨z.1, z.2.1⟩)
  have hv : V1 u d (rsC u Mc) (rsT d Mt) := fun q hq => by
    have et : tbl (rsC u Mc) u q.1 = tbl Mc u q.1 := by unfold tbl; rw [hc.1]
    rw [et]
    have hn : q.1 < 4096 := (show ∀ q ∈ cH, q.1 < 4096 by decide) q hq
    rw [hh q.1 hn]
    refine q20.2 _ ?_
    simp only [cH, List.mem_cons, List.not_mem_nil, or_false] at hq
    rcases hq with rfl | rfl | rfl | rfl | rfl | rfl | rfl | rfl | rfl | rfl | rfl | rfl | rfl | rfl | rfl | rfl | rfl | rfl | rfl | rfl <;> simp only [List.mem_cons, true_or, or_true]
  refine relC_of R0 hc ht' hv ⟨?_, ?_⟩ ⟨?_, ?_, ?_, ?_, ?_⟩ Tp Tt' (fun n hn => ?_)
  · show (fm_sI _ 37 u 0 (Int32.ofInt 3)).1 37 u 0 = (fm_sI _ 360 d 0 (Int32.ofInt 3)).1 360 d 0
    rw [rI, if_pos ⟨rfl, rfl, rfl⟩, rI, if_pos ⟨rfl, rfl, rfl⟩]
  · show mde ((fm_sI _ 360 d 0 (Int32.ofInt 3)).1 360 d 0)
    rw [rI, if_pos ⟨rfl, rfl, rfl⟩]
    exact Or.inr (Or.inr rfl)
  · rw [hh _ (by decide), tw_is, lb_0, lb_0, fi_neg (by decide), fi_neg (by decide)]
    decide
  · rw [hh _ (by decide), lb_0]
  · rw [hh _ (by decide), lb_0]
  · rw [hh _ (by decide)]
    exact Or.inl rfl
  · rw [hh _ (by decide)]
    exact fun i _ _ => lb_0 i
  · rw [hh n ((show ∀ n ∈ [3857, 3858, 3859, 3861], n < 4096 by decide) n hn), z2 n hn]
end Rs
