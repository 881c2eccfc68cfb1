/-! disks: both devices held against each other; a request from its offer to its answer -/
set_option maxRecDepth 100000
/-- what a request may ask for -/
def KdI (d : Nat) (M : FM) : Prop := (M.2.2 0 (M.2.2 3 (M.2.2 62 d 0) 0) 0 = 26 ∧ M.2.2 0 (M.2.2 3 (M.2.2 62 d 0) 1) 0 = 27 ∧ M.2.2 0 (M.2.2 3 (M.2.2 62 d 0) 4) 0 = 24 ∧ M.2.2 0 (M.2.2 3 (M.2.2 62 d 0) 8) 0 = 25) ∧ ∀ k, k < 9 → k ≠ 0 → k ≠ 1 → k ≠ 4 → k ≠ 8 → M.2.2 3 (M.2.2 62 d 0) k = 0
/-- the component's device, as it is made -/
def DkC (d x dk q rq r : Nat) (M : FM) : Prop := (fm_is M 22 22 d = true ∧ M.2.2 58 d 0 = x ∧ M.2.2 59 d 0 = dk ∧ M.2.2 60 d 0 = q ∧ M.2.2 61 d 0 = rq) ∧ (M.2.2 222 x 0 = r ∧ M.1 68 dk 0 = Int32.ofInt 2048 ∧ StRq rq M) ∧ KdI d M ∧ Txt 105 nmL M
def DkT (b c : Nat) (M : FM) : Prop := fm_is M 93 93 b = true ∧ M.2.2 326 b 0 = c ∧ M.1 325 b 0 = Int32.ofInt 2048
/-- registers, the queue, the disk -/
def DkV (d dk q b : Nat) (Mc Mt : FM) (size tk gv : Nat) : Prop :=
  (Mc.1 63 d 0 = Mt.1 329 b 0 ∧ Mc.1 64 d 0 = Mt.1 328 b 0 ∧ Mc.1 65 d 0 = Mt.1 333 b 0 ∧ Mc.1 66 d 0 = Mt.1 332 b 0) ∧ (Mc.1 71 q 0 = nI size ∧ Mt.1 330 b 0 = nI size ∧ 0 < size ∧ size ≤ 16) ∧ Mc.1 72 q 0 = Mt.1 331 b 0 ∧
  (Mc.2.1 73 q 0 = Mt.2.1 3 (Mt.2.2 334 b 0) 0 ∧ Mc.2.1 74 q 0 = Mt.2.1 3 (Mt.2.2 334 b 0) 1 ∧ Mc.2.1 75 q 0 = Mt.2.1 3 (Mt.2.2 334 b 0) 2) ∧
  (Mc.1 76 q 0 = nI tk ∧ Mt.1 335 b 0 = nI tk ∧ tk < 65536) ∧ (Mc.1 77 q 0 = nI gv ∧ Mt.1 336 b 0 = nI gv ∧ gv < 65536) ∧ Mc.1 70 dk 0 = Mt.1 338 b 0 ∧ RelDk dk b Mc Mt
def RelD (d x dk q rq b r c : Nat) (Mc Mt : FM) : Prop := RelRam r c Mc Mt ∧ DkC d x dk q rq r Mc ∧ DkT b c Mt ∧ ∃ size tk gv, DkV d dk q b Mc Mt size tk gv
/-- what is made at the start isn't written -/
def DFr (S : Nat → Prop) : Prop := (¬ S 58 ∧ ¬ S 59 ∧ ¬ S 60 ∧ ¬ S 61 ∧ ¬ S 62 ∧ ¬ S 68 ∧ ¬ S 78 ∧ ¬ S 79 ∧ ¬ S 85 ∧ ¬ S 86 ∧ ¬ S 222 ∧ ¬ S 1062) ∧ ¬ S 15 ∧ ¬ S 16 ∧ ¬ S 1015
section Rd2
variable {d x dk q rq b r c : Nat} {M N : FM} {S Z : Nat → Prop} {hx : Nat}
theorem dk_is (T : Ty M) (C : DkC d x dk q rq r M) : fm_is M 76 76 x = true ∧ fm_is M 23 23 dk = true ∧ fm_is M 28 28 q = true ∧ fm_is M 29 29 rq = true := by
  obtain ⟨⟨c1, c2, c3, c4, c5⟩, _⟩ := C
  refine ⟨?_, ?_, ?_, ?_⟩
  · rw [← c2]; exact tN_58 T.1 c1
  · rw [← c3]; exact tN_59 T.1 c1
  · rw [← c4]; exact tN_60 T.1 c1
  · rw [← c5]; exact tN_61 T.1 c1
theorem kd_l (T : Ty M) (W : Wf M) (n : fm_is M 22 22 d = true) (k : Nat) (h : M.2.2 0 (M.2.2 3 (M.2.2 62 d 0) k) 0 ≠ 0) : M.2.2 3 (M.2.2 62 d 0) k < fm_nx M := wf_lt W h
theorem dkC_k (T : Ty M) (W : Wf M) (k : Wk S Z hx (fm_nx M) M N) (hS : DFr S) (C : DkC d x dk q rq r M) : DkC d x dk q rq r N := by
  obtain ⟨nx, ndk, nq, nrq⟩ := dk_is T C
  obtain ⟨⟨c1, c2, c3, c4, c5⟩, ⟨c6, c7, c8⟩, ⟨c9, c10⟩, ct⟩ := C
  obtain ⟨⟨s58, s59, s60, s61, s62, s68, s78, s79, s85, s86, s222, s1062⟩, s15, s16, s1015⟩ := hS
  have ld := wf_lt W (fm_ist rfl c1)
  have lx := wf_lt W (fm_ist rfl nx)
  have ldk := wf_lt W (fm_ist rfl ndk)
  have lrq := wf_lt W (fm_ist rfl nrq)
  have n62 := tN_62 T.1 c1
  have l62 := wf_lt W (fm_ist rfl n62)
  have k62 := ka k (sS_62 W c1) (wf_n0 W (fm_ist rfl n62)) s1062 l62
  have e62 : N.2.2 62 d 0 = M.2.2 62 d 0 := by rw [(kf k rfl s62 ld).2.2]
  have e78 : N.2.2 78 rq 0 = M.2.2 78 rq 0 := by rw [(kf k rfl s78 lrq).2.2]
  have e79 : N.2.2 79 rq 0 = M.2.2 79 rq 0 := by rw [(kf k rfl s79 lrq).2.2]
  have n78 := tN_78 T.1 nrq
  have n79 := tN_79 T.1 nrq
  have l78 := wf_lt W (fm_ist rfl n78)
  have l79 := wf_lt W (fm_ist rfl n79)
  have tg : ∀ a t, M.2.2 0 a 0 = t → t ≠ 0 → N.2.2 0 a 0 = t := fun a t h1 h2 => by
    rw [(kt k (wf_lt W (a := a) (by rw [h1]; exact h2))).1]
    exact h1
  refine ⟨⟨kis k W rfl c1, ?_, ?_, ?_, ?_⟩, ⟨?_, ?_, ?_⟩, ⟨⟨?_, ?_, ?_, ?_⟩, fun j hj h0 h1 h4 h8 => ?_⟩, txt_k T W k ⟨s15, s16, s1015⟩ ct⟩
  · rw [(kf k rfl s58 ld).2.2]; exact c2
  · rw [(kf k rfl s59 ld).2.2]; exact c3
  · rw [(kf k rfl s60 ld).2.2]; exact c4
  · rw [(kf k rfl s61 ld).2.2]; exact c5
  · rw [(kf k rfl s222 lx).2.2]; exact c6
  · rw [(kf k rfl s68 ldk).1]; exact c7
  · unfold StRq
    rw [e78, e79, (kf k rfl s85 l78).2.2, (kf k rfl s85 l79).2.2, (kf k rfl s86 l78).2.2, (kf k rfl s86 l79).2.2]
    exact c8
  · rw [e62, k62.2.2]; exact tg _ 26 c9.1 (by decide)
  · rw [e62, k62.2.2]; exact tg _ 27 c9.2.1 (by decide)
  · rw [e62, k62.2.2]; exact tg _ 24 c9.2.2.1 (by decide)
  · rw [e62, k62.2.2]; exact tg _ 25 c9.2.2.2 (by decide)
  · rw [e62, k62.2.2]; exact c10 j hj h0 h1 h4 h8
theorem dkT_k (W : Wf M) (k : Wk S Z hx (fm_nx M) M N) (hS : ¬ S 325 ∧ ¬ S 326) (C : DkT b c M) : DkT b c N := by
  obtain ⟨c1, c2, c3⟩ := C
  have lb := wf_lt W (fm_ist rfl c1)
  refine ⟨kis k W rfl c1, ?_, ?_⟩
  · rw [(kf k rfl hS.2 lb).2.2]; exact c2
  · rw [(kf k rfl hS.1 lb).1]; exact c3
theorem fr_wk {P : Nat → Nat → Prop} {S : Nat → Prop} (h : Frm P M N) (W : Wf M) (h0 : ∀ f y, P f y → M.2.2 0 y 0 ≠ 0 ∧ S (lcn M f y)) : Wk S (fun _ => True) 0 (fm_nx M) M N :=
  frm_k h (fun f y z => (h0 f y z).1) (fun f y z => (h0 f y z).2) W
/-- places where a request may write, the twin's -/
theorem pen_k (h : Frm (PEn b c M) M N) (T : Ty M) (W : Wf M) (n : fm_is M 93 93 b = true) (nc : fm_is M 98 98 c = true) : Wk (fun y => fe_mem [335, 336, 337, 1388, 1389, 1391] y = true) (fun _ => True) 0 (fm_nx M) M N :=
  fr_wk h W (fun f y z => by
    rcases z with ⟨z1, z⟩ | ⟨z1, z2, z3⟩
    · have lc : ∀ a s, Sf M a s → M.2.2 0 a 0 ≠ 0 → lcn M 3 a = 1000 + s := fun a s h1 h2 => by
        unfold lcn
        rw [if_pos rfl]
        rcases h1 with q | q
        · exact absurd q (wf_n0 W h2)
        · rw [q.2]
      rw [z1]
      rcases z with z | z | z
      · have := fm_ist rfl (tN_388 T.1 nc)
        rw [z]
        exact ⟨this, by rw [lc _ 388 (sS_388 W nc) this]; rfl⟩
      · have := fm_ist rfl (tN_389 T.1 nc)
        rw [z]
        exact ⟨this, by rw [lc _ 389 (sS_389 W nc) this]; rfl⟩
      · have := fm_ist rfl (tN_391 T.1 nc)
        rw [z]
        exact ⟨this, by rw [lc _ 391 (sS_391 W nc) this]; rfl⟩
    · rw [z1]
      refine ⟨fm_ist rfl n, ?_⟩
      unfold lcn
      rw [if_neg (by omega)]
      have : f = 335 ∨ f = 336 ∨ f = 337 := by omega
      rcases this with y | y | y <;> rw [y] <;> rfl)
end Rd2
section Sv2
variable {d x dk q rq b r c : Nat} {Mc Mt : FM}
noncomputable def ofA (off : Int64) (tk size : Nat) : Int64 := (off + Int64.ofInt 4) + (Int64.ofInt 2) * (nI (tk % size)).toInt64
theorem X20_offer {q size tk : Nat} {off : Int64} {M : FM} (h71 : M.1 71 q 0 = nI size) (hs : 0 < size ∧ size ≤ 16) (h74 : M.2.1 74 q 0 = off) (h76 : M.1 76 q 0 = nI tk) (hg : tk < 65536) : HX20_offer q M ∧ GX20_offer q M = (ofA off tk size, M) := by
  unfold HX20_offer HX20_offer_0 GX20_offer GX20_offer_0
  dsimp only
  rw [h71, h74, h76, nI_mod hg hs.1 hs.2]
  exact ⟨⟨nI_n0 hs.1 hs.2, trivial⟩, rfl⟩
theorem is_no {M : FM} {a t u : Nat} (h : M.2.2 0 a 0 = t) (hu : t ≠ u) : ¬ fm_is M u u a = true := fun z => by
  have := fm_isd z
  omega
theorem is_ye {M : FM} {a t : Nat} (h : M.2.2 0 a 0 = t) : fm_is M t t a = true := fm_isi (by omega) (by omega)
noncomputable def rnG (d rq s0 : Nat) (M : FM) : Int32 × FM := (fi (fm_is M 24 24 s0 = true) (GX27_run s0 rq (M.2.2 59 d 0) (M.2.2 58 d 0) M) ((fi (fm_is M 25 25 s0 = true) (GX28_run s0 rq (M.2.2 59 d 0) (M.2.2 58 d 0) M) ((fi (fm_is M 26 26 s0 = true) (GX25_run s0 rq (M.2.2 59 d 0) (M.2.2 58 d 0) M) (GX26_run s0 rq (M.2.2 59 d 0) (M.2.2 58 d 0) M))))))
def rnH (d rq s0 : Nat) (M : FM) : Prop := ((fm_is M 24 24 s0 = true → True) ∧ (¬ (fm_is M 24 24 s0 = true) → ((fm_is M 25 25 s0 = true → HX28_run s0 rq (M.2.2 59 d 0) (M.2.2 58 d 0) M) ∧ (¬ (fm_is M 25 25 s0 = true) → ((fm_is M 26 26 s0 = true → HX25_run s0 rq (M.2.2 59 d 0) (M.2.2 58 d 0) M) ∧ (¬ (fm_is M 26 26 s0 = true) → (fm_is M 27 27 s0 = true ∧ HX26_run s0 rq (M.2.2 59 d 0) (M.2.2 58 d 0) M)))))))
/-- a request of a kind that there is -/
theorem rel_run (R : RelRam r c Mc Mt) {l : List Blk} {sec : Int64} (Q : Rq b c Mt l) (Cq : RqC rq dk x r Mc l sec) (K : RelDk dk b Mc Mt) (h70 : Mc.1 70 dk 0 = Mt.1 338 b 0) (KI : KdI d Mc) (kd : Nat)
    (h58 : Mc.2.2 58 d 0 = x) (h59 : Mc.2.2 59 d 0 = dk) (hk : ul (nuT b Mt (l.getD 0 (0, 0, false)).1 4) = kd) (hsec : nuT b Mt ((l.getD 0 (0, 0, false)).1 + Int64.ofInt 8) 8 = sec) (h4 : kd = 0 ∨ kd = 1 ∨ kd = 4 ∨ kd = 8) (s0 : Nat) (hs0 : s0 = Mc.2.2 3 (Mc.2.2 62 d 0) kd) :
    s0 ≠ 0 ∧ ∃ res Nc Nt w, rnH d rq s0 Mc ∧ rnG d rq s0 Mc = (res, Nc) ∧ FX95_request fN b Mt = some (w, GX93_put c (eaL l) (vb res.toInt64 0) Nt) ∧ OutR rq dk r c b Mc Mt Nc Nt w ∧ EndT b (eaL l) Nt := by
  have Q0 := rq_s Q
  obtain ⟨h0, cl, op, el, _, _, _, hh, ecl, eop, ht, okc, oko, hE, hea⟩ := Q0
  have e0 : l.getD 0 (0, 0, false) = h0 := by rw [el]; rfl
  rw [e0] at hk hsec
  have G := X95_request_pre Q el hh (by rw [eop]; exact ht) ⟨by rw [eop]; exact tot_37 oko, by rw [ecl]; exact tot_37 okc⟩ kd hk sec hsec
  obtain ⟨⟨t0, t1, t4, t8⟩, _⟩ := KI
  have W := R.1.2.1
  have n0 : ∀ {a t : Nat}, Mc.2.2 0 a 0 = t → t ≠ 0 → a ≠ 0 := fun {a t} h1 h2 => wf_n0 W (by rw [h1]; exact h2)
  unfold rnH rnG
  rw [h58, h59]
  rcases h4 with z | z | z | z
  · subst z
    rw [← hs0] at t0
    obtain ⟨res, Nc, Nt, w, f1, f2, f3, f4⟩ := req_rd R Q Cq K h70 s0 G
    obtain ⟨g1, g2⟩ := op_of (d := ((0 : Int32), Mc)) f1 (P := OkR Mc) ⟨f3.1.1.1, wk_ext W f3.2.2.2.2.2.1⟩
    refine ⟨n0 t0 (by decide), res, Nc, Nt, w, ⟨fun q => absurd q (is_no t0 (by decide)), fun _ => ⟨fun q => absurd q (is_no t0 (by decide)), fun _ => ⟨fun _ => g1, fun q => absurd (is_ye t0) q⟩⟩⟩, ?_, f2, f3, f4⟩
    rw [fi_neg (is_no t0 (by decide)), fi_neg (is_no t0 (by decide)), fi_pos (is_ye t0)]
    exact g2
  · subst z
    rw [← hs0] at t1
    obtain ⟨res, Nc, Nt, w, f1, f2, f3, f4⟩ := req_wr R Q Cq K h70 s0 G
    obtain ⟨g1, g2⟩ := op_of (d := ((0 : Int32), Mc)) f1 (P := OkR Mc) ⟨f3.1.1.1, wk_ext W f3.2.2.2.2.2.1⟩
    refine ⟨n0 t1 (by decide), res, Nc, Nt, w, ⟨fun q => absurd q (is_no t1 (by decide)), fun _ => ⟨fun q => absurd q (is_no t1 (by decide)), fun _ => ⟨fun q => absurd q (is_no t1 (by decide)), fun _ => ⟨is_ye t1, g1⟩⟩⟩⟩, ?_, f2, f3, f4⟩
    rw [fi_neg (is_no t1 (by decide)), fi_neg (is_no t1 (by decide)), fi_neg (is_no t1 (by decide))]
    exact g2
  · subst z
    rw [← hs0] at t4
    obtain ⟨f1, f2⟩ := req_ot (res := Int32.ofInt 0) R.2.1 Q (kd := 4) ⟨by decide, by decide, by decide⟩ (Or.inl ⟨rfl, rfl⟩) G
    refine ⟨n0 t4 (by decide), Int32.ofInt 0, Mc, Mt, _, ⟨fun _ => trivial, fun q => absurd (is_ye t4) q⟩, ?_, f1, ⟨R, K, h70, Cq.2.2.2.2.2, evo_w (evo_r r 0 Mc) (by omega), wk_r (wi_N W), rfl⟩, f2⟩
    rw [fi_pos (is_ye t4)]
    rfl
  · subst z
    rw [← hs0] at t8
    obtain ⟨res, Nc, Nt, w, f1, f2, f3, f4⟩ := req_nm R Q Cq K h70 s0 G
    obtain ⟨g1, g2⟩ := op_of (d := ((0 : Int32), Mc)) f1 (P := OkR Mc) ⟨f3.1.1.1, wk_ext W f3.2.2.2.2.2.1⟩
    refine ⟨n0 t8 (by decide), res, Nc, Nt, w, ⟨fun q => absurd q (is_no t8 (by decide)), fun _ => ⟨fun _ => g1, fun q => absurd (is_ye t8) q⟩⟩, ?_, f2, f3, f4⟩
    rw [fi_neg (is_no t8 (by decide)), fi_pos (is_ye t8)]
    exact g2
/-- a request of another kind -/
theorem rel_run0 (R : RelRam r c Mc Mt) {l : List Blk} {sec : Int64} (Q : Rq b c Mt l) (kd : Nat) (hk : ul (nuT b Mt (l.getD 0 (0, 0, false)).1 4) = kd) (hsec : nuT b Mt ((l.getD 0 (0, 0, false)).1 + Int64.ofInt 8) 8 = sec) (h4 : ¬ (kd = 0 ∨ kd = 1 ∨ kd = 4 ∨ kd = 8)) :
    FX95_request fN b Mt = some (Int64.ofInt 0 + Int64.ofInt 1, GX93_put c (eaL l) (vb (Int32.ofInt 2).toInt64 0) Mt) ∧ EndT b (eaL l) Mt := by
  have Q0 := rq_s Q
  obtain ⟨h0, cl, op, el, _, _, _, hh, ecl, eop, ht, okc, oko, hE, hea⟩ := Q0
  have e0 : l.getD 0 (0, 0, false) = h0 := by rw [el]; rfl
  rw [e0] at hk hsec
  have G := X95_request_pre Q el hh (by rw [eop]; exact ht) ⟨by rw [eop]; exact tot_37 oko, by rw [ecl]; exact tot_37 okc⟩ kd hk sec hsec
  exact req_ot (res := Int32.ofInt 2) R.2.1 Q (kd := kd) ⟨fun z => h4 (Or.inl z), fun z => h4 (Or.inr (Or.inl z)), fun z => h4 (Or.inr (Or.inr (Or.inr z)))⟩ (Or.inr ⟨fun z => h4 (Or.inr (Or.inr (Or.inl z))), rfl⟩) G
end Sv2
