/-! floats: the twin: arithmetic, and what is plain -/
set_option maxRecDepth 100000
/-- k is one of those that a mode is asked for -/
noncomputable def fAr (t k b md : Nat) (v : Int64) (s : Fs) (a : Nat) : Fo :=
  if k < 4 then some ((opB2 t md (rdU t a s).1 (rdU t b s).1 (opR k md (rdU t a s) (rdU t b s))).2, .inl (lN (opB2 t md (rdU t a s).1 (rdU t b s).1 (opR k md (rdU t a s) (rdU t b s))).1))
  else if k = 11 then (if b = 0 then some ((opB1 t md (rdU t a s).1 (rootR (rdU t a s))).2, .inl (lN (opB1 t md (rdU t a s).1 (rootR (rdU t a s))).1)) else none)
  else if k = 8 then (if b = 1 - t then some ((opB1 t md (rdU (1 - t) a s).1 (othR (rdU (1 - t) a s))).2, .inl (lN (opB1 t md (rdU (1 - t) a s).1 (othR (rdU (1 - t) a s))).1)) else none)
  else if k = 24 then (if b < 4 then some ((toI b md (rdU t a s)).2, .inr (toI b md (rdU t a s)).1) else none)
  else if k = 26 then (if b < 4 then some ((finF t md (frI b v)).2, .inl (lN (finF t md (frI b v)).1)) else none)
  else none
section Ub
variable {M N K : FM} {f t d r fl i j a b md k : Nat} {s : Fs} {x v : Int64} {X Y : UU} {sg : Bool}
theorem aw (o : FlO f M) (w : VFt f M s) (ht : t ≤ 1) (hd : d < 32) {R : Nat × Nat} {HA : Prop} {GA : Int64 × FM} (h : ∃ L, (HA ∧ GA = (lN R.1, L)) ∧ Rs f R.2 M L) :
    PoT f t d s (some (R.2, .inl (lN R.1))) (HA ∧ HX99_write f (nI d) GA.1 (nI t) GA.2 ∧ True) (GX99_write f (nI d) GA.1 (nI t) GA.2) M := by
  obtain ⟨L, ⟨h1, h2⟩, r⟩ := h
  obtain ⟨N, ⟨h3, e⟩, n1, n2⟩ := po_tw (d := d) (frF_o o r.1) (vFt_r o w r) (frT_f r.1) ht hd (lN R.1)
  rw [h2]
  exact ⟨N, ⟨⟨h1, h3, trivial⟩, e⟩, n1, n2⟩
theorem rdU_z (ht : t ≤ 1) (a : Nat) (s : Fs) : (rdU t a s).1 = 0 → (rdU t a s).2.2.2 ≤ 65 := fun h => by
  have e := (uK_0 (t := t) (x := bO t (s.1 a)) h).1
  show uP t (bO t (s.1 a)) ≤ 65
  unfold uP
  rw [if_pos e]
  have := p2F ht
  omega
theorem read0 (o : FlO f M) (w : VFt f M s) (ht : t ≤ 1) (ha : a < 32) (hi : i < 3) : HX99_read f (nI i) (nI a) (nI t) M ∧ ∃ K, GX99_read f (nI i) (nI a) (nI t) M = K ∧ Rs f 0 M K ∧ FlO f K ∧ VFt f K s ∧ SV f i K (rdU t a s) ∧ (∀ j y, j ≠ i → SV f j M y → SV f j K y) := by
  obtain ⟨h, e⟩ := X99_read o ht ha hi
  rw [w.1 a ha] at e
  have r := rdM_f (i := i) (x := upk t (bO t (s.1 a))) o
  have wr := vFt_r o w r
  rw [sFl_0] at wr
  exact ⟨h, _, e, r, frF_o o r.1, wr, rdM_v o, fun j y n q => rdM_o o n q⟩
theorem X99_arith (o : FlO f M) (w : VFt f M s) (ht : t ≤ 1) (hm : md ≤ 4) (hk : k < 32) (hd : d < 32) (ha : a < 32) (hb : b < 32) (hK : k < 4 ∨ k = 11 ∨ k = 8 ∨ k = 24 ∨ k = 26) (v0 : SV f 0 M (rdU t a s)) (v1 : SV f 1 M (rdU t b s)) :
    PoT f t d s (fAr t k b md v s a) (HX99_arithmetic f (nI k) (nI d) (nI a) (nI b) (nI t) (nI md) v M) (GX99_arithmetic f (nI k) (nI d) (nI a) (nI b) (nI t) (nI md) v M) M := by
  have gX := rdU_g ht a s
  have gY := rdU_g ht b s
  have T := o.1
  have ck : ∀ l : Nat, l < 32 → (nI k = Int32.ofInt (l : Int)) = (k = l) := fun l hl => propext (by
    have := ni_i (a := k) (b := l) (by omega) (by omega)
    rw [iz_nI l] at this
    exact this)
  have g2 : (Int32.ofInt 2 ≤ nI k) = ¬ k < 2 := propext (by
    have := ni_ge (z := 2) (k := k) (by omega)
    rw [this]
    omega)
  have b0 : (nI b = 0) = (b = 0) := propext (ni_i (b := 0) (by omega) (by decide))
  have b3 : (nI b ≤ Int32.ofInt 3) = (b < 4) := propext (by
    have := ni_le (z := 3) (k := b) (by omega)
    rw [this]
    omega)
  have bt : (nI b = Int32.ofInt 1 - nI t) = (b = 1 - t) := propext (by
    rw [show Int32.ofInt 1 = nI 1 from rfl, ni_sub ht]
    exact ni_i (by omega) (by omega))
  unfold HX99_arithmetic HX99_arithmetic_0 GX99_arithmetic GX99_arithmetic_0 GX99_arithmetic_94 GX99_arithmetic_186 fAr
  dsimp only
  rw [g2, show (nI k = Int32.ofInt 2) = (k = 2) from ck 2 (by decide), show (nI k = Int32.ofInt 3) = (k = 3) from ck 3 (by decide), show (nI k = Int32.ofInt 11) = (k = 11) from ck 11 (by decide), show (nI k = Int32.ofInt 8) = (k = 8) from ck 8 (by decide), show (nI k = Int32.ofInt 24) = (k = 24) from ck 24 (by decide), b0, b3, bt]
  by_cases q2 : k < 2
  · rw [fi_neg (fun z => z q2), if_pos (show k < 4 by omega)]
    have tn : nI k = bz (decide (k = 1) = true) := by
      rcases (show k = 0 ∨ k = 1 by omega) with z | z <;> subst z
      · rw [bz_f (by decide)]
        rfl
      · rw [bz_t (by decide)]
        rfl
    have r := X99_added (t := t) (md := md) o ht hm v0 v1 gX gY (decide (k = 1))
    rw [← tn] at r
    unfold opR
    rw [if_pos q2]
    exact po_th (aw o w ht hd r) (fun h => ⟨fun z => absurd q2 z, fun _ => h⟩) rfl
  · rw [fi_pos q2]
    by_cases k2 : k = 2
    · rw [fi_pos k2, if_pos (show k < 4 by omega)]
      have r := X99_multiplied (t := t) (md := md) o ht hm v0 v1 gX gY
      unfold opR
      rw [if_neg q2, if_pos k2]
      exact po_th (aw o w ht hd r) (fun h => ⟨fun _ => ⟨fun _ => h, fun z => absurd k2 z⟩, fun z => absurd q2 z⟩) rfl
    · rw [fi_neg k2]
      by_cases k3 : k = 3
      · rw [fi_pos k3, if_pos (show k < 4 by omega)]
        have r := X99_divided (t := t) (md := md) o ht hm v0 v1 gX gY
        unfold opR
        rw [if_neg q2, if_neg k2]
        exact po_th (aw o w ht hd r) (fun h => ⟨fun _ => ⟨fun z => absurd z k2, fun _ => ⟨fun _ => h, fun z => absurd k3 z⟩⟩, fun z => absurd q2 z⟩) rfl
      · rw [fi_neg k3, if_neg (show ¬ k < 4 by omega)]
        by_cases k11 : k = 11
        · rw [fi_pos k11, if_pos k11]
          by_cases y0 : b = 0
          · rw [fi_pos y0, if_pos y0]
            have r := X99_root (t := t) (md := md) o ht hm v0 gX
            exact po_th (aw o w ht hd r) (fun h => ⟨fun _ => ⟨fun z => absurd z k2, fun _ => ⟨fun z => absurd z k3, fun _ => ⟨fun _ => ⟨fun _ => h, fun z => absurd y0 z⟩, fun z => absurd k11 z⟩⟩⟩, fun z => absurd q2 z⟩) rfl
          · rw [fi_neg y0, if_neg y0]
            exact po_tn ⟨⟨fun _ => ⟨fun z => absurd z k2, fun _ => ⟨fun z => absurd z k3, fun _ => ⟨fun _ => ⟨fun z => absurd z y0, fun _ => trivial⟩, fun z => absurd k11 z⟩⟩⟩, fun z => absurd q2 z⟩, rfl⟩ w T
        · rw [fi_neg k11, if_neg k11]
          by_cases k8 : k = 8
          · rw [fi_pos k8, if_pos k8]
            by_cases y0 : b = 1 - t
            · rw [fi_pos y0, if_pos y0]
              have e1t : Int32.ofInt 1 - nI t = nI (1 - t) := by rw [show Int32.ofInt 1 = nI 1 from rfl, ni_sub ht]
              rw [e1t, show Int32.ofInt 0 = nI 0 from rfl]
              obtain ⟨rh, K, rg, rr, rO, rV, rS, -⟩ := read0 (i := 0) (t := 1 - t) o w (by omega) ha (by decide)
              rw [rg]
              have r := X99_other (t := t) (md := md) rO ht hm rS (rdU_g (show 1 - t ≤ 1 by omega) a s)
              exact po_tf (frT_f rr.1) (po_th (aw rO rV ht hd r) (fun h => ⟨fun _ => ⟨fun z => absurd z k2, fun _ => ⟨fun z => absurd z k3, fun _ => ⟨fun z => absurd z k11, fun _ => ⟨fun _ => ⟨fun _ => ⟨rh, h⟩, fun z => absurd y0 z⟩, fun z => absurd k8 z⟩⟩⟩⟩, fun z => absurd q2 z⟩) rfl)
            · rw [fi_neg y0, if_neg y0]
              exact po_tn ⟨⟨fun _ => ⟨fun z => absurd z k2, fun _ => ⟨fun z => absurd z k3, fun _ => ⟨fun z => absurd z k11, fun _ => ⟨fun _ => ⟨fun z => absurd z y0, fun _ => trivial⟩, fun z => absurd k8 z⟩⟩⟩⟩, fun z => absurd q2 z⟩, rfl⟩ w T
          · rw [fi_neg k8, if_neg k8]
            by_cases y0 : b < 4
            · rw [fi_pos y0]
              by_cases k24 : k = 24
              · rw [fi_pos k24, if_pos k24, if_pos y0]
                obtain ⟨L, ⟨h, e⟩, r⟩ := X99_toInteger (md := md) o y0 hm v0 gX (rdU_z ht a s)
                obtain ⟨N, e2, n1, n2⟩ := po_tg (t := t) (d := d) (frF_o o r.1) (vFt_r o w r) (frT_f r.1) (toI b md (rdU t a s)).1
                rw [e]
                exact ⟨N, ⟨⟨fun _ => ⟨fun z => absurd z k2, fun _ => ⟨fun z => absurd z k3, fun _ => ⟨fun z => absurd z k11, fun _ => ⟨fun z => absurd z k8, fun _ => ⟨fun _ => ⟨fun _ => ⟨h, trivial⟩, fun z => absurd k24 z⟩, fun z => absurd y0 z⟩⟩⟩⟩⟩, fun z => absurd q2 z⟩, e2⟩, n1, n2⟩
              · rw [fi_neg k24, if_neg k24, if_pos (show k = 26 by omega), if_pos y0]
                have r := X99_fromInteger (t := t) (md := md) o y0 ht hm v
                exact po_th (aw o w ht hd r) (fun h => ⟨fun _ => ⟨fun z => absurd z k2, fun _ => ⟨fun z => absurd z k3, fun _ => ⟨fun z => absurd z k11, fun _ => ⟨fun z => absurd z k8, fun _ => ⟨fun _ => ⟨fun z => absurd z k24, fun _ => h⟩, fun z => absurd y0 z⟩⟩⟩⟩⟩, fun z => absurd q2 z⟩) rfl
            · rw [fi_neg y0]
              have eN : (if k = 24 then (if b < 4 then some ((toI b md (rdU t a s)).2, (Sum.inr (toI b md (rdU t a s)).1 : Int64 ⊕ Int64)) else none)
                  else if k = 26 then (if b < 4 then some ((finF t md (frI b v)).2, .inl (lN (finF t md (frI b v)).1)) else none) else none) = none := by
                rw [if_neg y0, if_neg y0]
                split
                · rfl
                · split <;> rfl
              rw [eN]
              exact po_tn ⟨⟨fun _ => ⟨fun z => absurd z k2, fun _ => ⟨fun z => absurd z k3, fun _ => ⟨fun z => absurd z k11, fun _ => ⟨fun z => absurd z k8, fun _ => ⟨fun z => absurd z y0, fun _ => trivial⟩⟩⟩⟩⟩, fun z => absurd q2 z⟩, rfl⟩ w T
/-- signs, lesser and greater, comparing, looking, laying -/
noncomputable def fPl (t k b r : Nat) (v : Int64) (s : Fs) (a : Nat) : Fo :=
  if k = 4 then (if r < 3 then some (0, .inl (lN (pk t (sgJ t r (bO t (s.1 a)) (bO t (s.1 b))) 0 (ul (bO t (s.1 a)) % 2 ^ fS t)))) else none)
  else if k = 5 then (if r < 2 then some (if (rdU t a s).1 = 4 ∨ (rdU t b s).1 = 4 then 16 else 0, .inl (lN (ul (chB t r (bO t (s.1 a)) (bO t (s.1 b)) (rdU t a s) (rdU t b s))))) else none)
  else if k = 20 then (if r < 3 then some ((cmV r (rdU t a s) (rdU t b s)).2, .inr (cmV r (rdU t a s) (rdU t b s)).1) else none)
  else if k = 28 then (if b = 0 then (if r < 2 then some (0, .inr (lkV t r a s)) else none) else none)
  else if k = 30 then (if b = 0 ∧ r = 0 then some (0, .inl (if t = 1 then v else v &&& Int64.ofInt 4294967295)) else none)
  else none
theorem X99_plain (o : FlO f M) (w : VFt f M s) (ht : t ≤ 1) (hr : r < 8) (hk : k < 32) (hd : d < 32) (ha : a < 32) (hb : b < 32) (v0 : SV f 0 M (rdU t a s)) (v1 : SV f 1 M (rdU t b s)) :
    PoT f t d s (fPl t k b r v s a) (HX99_plain f (nI k) (nI d) (nI a) (nI b) (nI t) (nI r) v M) (GX99_plain f (nI k) (nI d) (nI a) (nI b) (nI t) (nI r) v M) M := by
  have T := o.1
  have ck : ∀ l : Nat, l < 32 → (nI k = Int32.ofInt (l : Int)) = (k = l) := fun l hl => propext (by
    have := ni_i (a := k) (b := l) (by omega) (by omega)
    rw [iz_nI l] at this
    exact this)
  have b0 : (nI b = 0) = (b = 0) := propext (ni_i (b := 0) (by omega) (by decide))
  have r0 : (nI r = 0) = (r = 0) := propext (ni_i (b := 0) (by omega) (by decide))
  have r1 : (nI r = Int32.ofInt 1) = (r = 1) := propext (ni_i (b := 1) (by omega) (by decide))
  have t1 : (nI t = Int32.ofInt 1) = (t = 1) := propext (ni_i (b := 1) (by omega) (by decide))
  have r2 : (Int32.ofInt 2 ≤ nI r) = ¬ r < 2 := propext (by
    have := ni_ge (z := 2) (k := r) (by omega)
    rw [this]
    omega)
  have r3 : (Int32.ofInt 3 ≤ nI r) = ¬ r < 3 := propext (by
    have := ni_ge (z := 3) (k := r) (by omega)
    rw [this]
    omega)
  have c4 : (nI k = Int32.ofInt 4) = (k = 4) := ck 4 (by decide)
  have c5 : (nI k = Int32.ofInt 5) = (k = 5) := ck 5 (by decide)
  have c20 : (nI k = Int32.ofInt 20) = (k = 20) := ck 20 (by decide)
  have c28 : (nI k = Int32.ofInt 28) = (k = 28) := ck 28 (by decide)
  have c30 : (nI k = Int32.ofInt 30) = (k = 30) := ck 30 (by decide)
  have w0 : VFt f M (sFl 0 s) := by rw [sFl_0]; exact w
  have W := fun (b : Int64) => po_tw (d := d) o w0 (frT_rF T) ht hd b
  have K208 : PoT f t d s (if k = 30 then (if b = 0 ∧ r = 0 then some (0, .inl (if t = 1 then v else v &&& Int64.ofInt 4294967295)) else none) else none) (HX99_plain_208 f (nI k) (nI d) (nI b) (nI t) (nI r) v M) (GX99_plain_208 f (nI k) (nI d) (nI b) (nI t) (nI r) v M) M := by
    unfold HX99_plain_208 GX99_plain_208 HX99_plain_243 GX99_plain_243 GX99_plain_249
    dsimp only
    rw [c30, b0, r0, t1]
    by_cases k30 : k = 30
    · rw [fi_pos k30, if_pos k30]
      by_cases y0 : b = 0
      · rw [fi_pos y0]
        by_cases y1 : r = 0
        · rw [fi_pos y1, if_pos ⟨y0, y1⟩]
          by_cases y2 : t = 1
          · rw [fi_pos y2, if_pos y2]
            obtain ⟨N, ⟨h, e⟩, n⟩ := W v
            exact ⟨N, ⟨⟨fun _ => ⟨fun _ => ⟨fun _ => ⟨fun _ => ⟨h, trivial⟩, fun z => absurd y2 z⟩, fun z => absurd y1 z⟩, fun z => absurd y0 z⟩, fun z => absurd k30 z⟩, e⟩, n⟩
          · rw [fi_neg y2, if_neg y2]
            obtain ⟨N, ⟨h, e⟩, n⟩ := W (v &&& Int64.ofInt 4294967295)
            exact ⟨N, ⟨⟨fun _ => ⟨fun _ => ⟨fun _ => ⟨fun z => absurd z y2, fun _ => ⟨h, trivial⟩⟩, fun z => absurd y1 z⟩, fun z => absurd y0 z⟩, fun z => absurd k30 z⟩, e⟩, n⟩
        · rw [fi_neg y1, if_neg (fun z => y1 z.2)]
          exact po_tn ⟨⟨fun _ => ⟨fun _ => ⟨fun z => absurd z y1, fun _ => trivial⟩, fun z => absurd y0 z⟩, fun z => absurd k30 z⟩, rfl⟩ w T
      · rw [fi_neg y0, if_neg (fun z => y0 z.1)]
        exact po_tn ⟨⟨fun _ => ⟨fun z => absurd z y0, fun _ => trivial⟩, fun z => absurd k30 z⟩, rfl⟩ w T
    · rw [fi_neg k30, if_neg k30]
      exact po_tn ⟨⟨fun z => absurd z k30, fun _ => trivial⟩, rfl⟩ w T
  have K148 : PoT f t d s (if k = 28 then (if b = 0 then (if r < 2 then some (0, .inr (lkV t r a s)) else none) else none) else if k = 30 then (if b = 0 ∧ r = 0 then some (0, .inl (if t = 1 then v else v &&& Int64.ofInt 4294967295)) else none) else none) (HX99_plain_148 f (nI k) (nI d) (nI a) (nI b) (nI t) (nI r) v M) (GX99_plain_148 f (nI k) (nI d) (nI a) (nI b) (nI t) (nI r) v M) M := by
    unfold HX99_plain_148 GX99_plain_148 GX99_plain_204 GX99_plain_207
    dsimp only
    rw [c28, b0, r2, r1, t1]
    by_cases k28 : k = 28
    · rw [fi_pos k28, if_pos k28]
      rw [if_neg (show ¬ k = 30 by omega)] at K208
      by_cases y0 : b = 0
      · rw [fi_pos y0, if_pos y0]
        by_cases y1 : r < 2
        · rw [fi_neg (fun z => z y1), if_pos y1]
          have ia : fm_in M (M.2.2 367 f 0) (nI a) = true := in_nI (tL_367 o.1.1 o.2.1) (by omega) (by decide)
          by_cases y2 : r = 1
          · rw [fi_pos y2, y2]
            exact po_th (X99_classified o w ht ha v0) (fun h => ⟨fun _ => ⟨fun _ => ⟨fun z => absurd (by omega) z, fun _ => ⟨fun _ => ⟨h, trivial⟩, fun z => absurd rfl z⟩⟩, fun z => absurd y0 z⟩, fun z => absurd k28 z⟩) rfl
          · rw [fi_neg y2, o_cl (show a < 2147483648 by omega), w.1 a ha]
            have tg := fun z => po_tg (t := t) (d := d) o w0 (frT_rF T) z
            have eL : lkV t r a s = if t = 1 then s.1 a else (s.1 a).toInt32.toInt64 := by
              unfold lkV
              rw [if_pos (show r = 0 by omega)]
            rw [eL]
            by_cases y3 : t = 1
            · rw [fi_pos y3, if_pos y3]
              obtain ⟨N, e, n⟩ := tg (s.1 a)
              exact ⟨N, ⟨⟨fun _ => ⟨fun _ => ⟨fun z => absurd y1 z, fun _ => ⟨fun z => absurd z y2, fun _ => ⟨fun _ => ⟨ia, trivial⟩, fun z => absurd y3 z⟩⟩⟩, fun z => absurd y0 z⟩, fun z => absurd k28 z⟩, e⟩, n⟩
            · rw [fi_neg y3, if_neg y3]
              obtain ⟨N, e, n⟩ := tg ((s.1 a).toInt32.toInt64)
              exact ⟨N, ⟨⟨fun _ => ⟨fun _ => ⟨fun z => absurd y1 z, fun _ => ⟨fun z => absurd z y2, fun _ => ⟨fun z => absurd z y3, fun _ => ⟨ia, trivial⟩⟩⟩⟩, fun z => absurd y0 z⟩, fun z => absurd k28 z⟩, e⟩, n⟩
        · rw [fi_pos y1, if_neg y1]
          exact po_th K208 (fun h => ⟨fun _ => ⟨fun _ => ⟨fun _ => h, fun z => absurd y1 z⟩, fun z => absurd y0 z⟩, fun z => absurd k28 z⟩) rfl
      · rw [fi_neg y0, if_neg y0]
        exact po_th K208 (fun h => ⟨fun _ => ⟨fun z => absurd z y0, fun _ => h⟩, fun z => absurd k28 z⟩) rfl
    · rw [fi_neg k28, if_neg k28]
      exact po_th K208 (fun h => ⟨fun z => absurd z k28, fun _ => h⟩) rfl
  have K124 : PoT f t d s (if k = 20 then (if r < 3 then some ((cmV r (rdU t a s) (rdU t b s)).2, .inr (cmV r (rdU t a s) (rdU t b s)).1) else none) else if k = 28 then (if b = 0 then (if r < 2 then some (0, .inr (lkV t r a s)) else none) else none) else if k = 30 then (if b = 0 ∧ r = 0 then some (0, .inl (if t = 1 then v else v &&& Int64.ofInt 4294967295)) else none) else none)
      (HX99_plain_124 f (nI k) (nI d) (nI a) (nI b) (nI t) (nI r) v M) (GX99_plain_124 f (nI k) (nI d) (nI a) (nI b) (nI t) (nI r) v M) M := by
    unfold HX99_plain_124 GX99_plain_124
    dsimp only
    rw [c20, r3]
    by_cases k20 : k = 20
    · rw [fi_pos k20, if_pos k20]
      by_cases y1 : r < 3
      · rw [fi_neg (fun z => z y1), if_pos y1]
        exact po_th (X99_compared o w ht ha hb y1 v0 v1) (fun h => ⟨fun _ => ⟨fun z => absurd y1 z, fun _ => ⟨h, trivial⟩⟩, fun z => absurd k20 z⟩) rfl
      · rw [fi_pos y1, if_neg y1]
        rw [if_neg (show ¬ k = 28 by omega), if_neg (show ¬ k = 30 by omega)] at K148
        exact po_th K148 (fun h => ⟨fun _ => ⟨fun _ => h, fun z => absurd y1 z⟩, fun z => absurd k20 z⟩) rfl
    · rw [fi_neg k20, if_neg k20]
      exact po_th K148 (fun h => ⟨fun z => absurd z k20, fun _ => h⟩) rfl
  have K100 : PoT f t d s (if k = 5 then (if r < 2 then some (if (rdU t a s).1 = 4 ∨ (rdU t b s).1 = 4 then 16 else 0, .inl (lN (ul (chB t r (bO t (s.1 a)) (bO t (s.1 b)) (rdU t a s) (rdU t b s))))) else none) else if k = 20 then (if r < 3 then some ((cmV r (rdU t a s) (rdU t b s)).2, .inr (cmV r (rdU t a s) (rdU t b s)).1) else none) else if k = 28 then (if b = 0 then (if r < 2 then some (0, .inr (lkV t r a s)) else none) else none) else if k = 30 then (if b = 0 ∧ r = 0 then some (0, .inl (if t = 1 then v else v &&& Int64.ofInt 4294967295)) else none) else none)
      (HX99_plain_100 f (nI k) (nI d) (nI a) (nI b) (nI t) (nI r) v M) (GX99_plain_100 f (nI k) (nI d) (nI a) (nI b) (nI t) (nI r) v M) M := by
    unfold HX99_plain_100 GX99_plain_100
    dsimp only
    rw [c5, r2]
    by_cases k5 : k = 5
    · rw [fi_pos k5, if_pos k5]
      by_cases y1 : r < 2
      · rw [fi_neg (fun z => z y1), if_pos y1]
        exact po_th (X99_extreme o w ht hd ha hb y1 v0 v1) (fun h => ⟨fun _ => ⟨fun z => absurd y1 z, fun _ => ⟨h, trivial⟩⟩, fun z => absurd k5 z⟩) rfl
      · rw [fi_pos y1, if_neg y1]
        rw [if_neg (show ¬ k = 20 by omega), if_neg (show ¬ k = 28 by omega), if_neg (show ¬ k = 30 by omega)] at K124
        exact po_th K124 (fun h => ⟨fun _ => ⟨fun _ => h, fun z => absurd y1 z⟩, fun z => absurd k5 z⟩) rfl
    · rw [fi_neg k5, if_neg k5]
      exact po_th K124 (fun h => ⟨fun z => absurd z k5, fun _ => h⟩) rfl
  unfold HX99_plain HX99_plain_0 GX99_plain GX99_plain_0 fPl
  rw [c4, r3, t1]
  by_cases k4 : k = 4
  · rw [fi_pos k4, if_pos k4]
    by_cases y1 : r < 3
    · rw [fi_neg (fun z => z y1), if_pos y1]
      obtain ⟨bh, bg⟩ := vft_b (a := a) o w ht ha
      have zx : t = 0 → ul (bO t (s.1 a)) < 4294967296 := fun y => by rw [y]; exact bO_lt _
      have K72 : ∀ (sg : Bool) (tp : Int64), tp = lN (2 ^ fS t - 1) → PoT f t d s (some (0, .inl (lN (pk t sg 0 (ul (bO t (s.1 a)) % 2 ^ fS t))))) (HX99_plain_72 f (nI d) (nI a) (nI t) tp (bz (sg = true)) M) (GX99_plain_72 f (nI d) (nI a) (nI t) tp (bz (sg = true)) M) M := fun sg tp htp => by
        unfold HX99_plain_72 GX99_plain_72
        dsimp only
        rw [bg]
        dsimp only
        have pS := Nat.two_pow_pos (fS t)
        have hm : ul (bO t (s.1 a)) % 2 ^ fS t < 2 ^ fS t := Nat.mod_lt _ pS
        have e := X99_pack (M := M) (sg := sg) (e := 0) (F := ul (bO t (s.1 a)) % 2 ^ fS t) ht (Nat.two_pow_pos _) (Or.inr ⟨rfl, hm⟩)
        rw [htp, mgL ht zx]
        have e' : GX99_pack (bz (sg = true)) (Int64.ofInt 0) (lN (mg t (bO t (s.1 a)))) (nI t) M = (lN (pk t sg 0 (ul (bO t (s.1 a)) % 2 ^ fS t)), M) := e
        rw [e']
        dsimp only
        obtain ⟨N, ⟨h, e⟩, n⟩ := W (lN (pk t sg 0 (ul (bO t (s.1 a)) % 2 ^ fS t)))
        exact ⟨N, ⟨⟨bh, h, trivial⟩, e⟩, n⟩
      have K26 : ∀ tp : Int64, tp = lN (2 ^ fS t - 1) → PoT f t d s (some (0, .inl (lN (pk t (sgJ t r (bO t (s.1 a)) (bO t (s.1 b))) 0 (ul (bO t (s.1 a)) % 2 ^ fS t))))) (HX99_plain_26 f (nI d) (nI a) (nI t) (nI r) tp M) (GX99_plain_26 f (nI d) (nI a) (nI t) (nI r) tp M) M := fun tp htp => by
        unfold HX99_plain_26 GX99_plain_26
        dsimp only
        rw [r0, r1, cl0, cl1, v0.2.1, v1.2.1, show (rdU t a s).2.1 = uS' t (bO t (s.1 a)) from rfl, show (rdU t b s).2.1 = uS' t (bO t (s.1 b)) from rfl, bz_x]
        have e1 : Int32.ofInt 1 - bz (uS' t (bO t (s.1 b)) = true) = bz ((!uS' t (bO t (s.1 b))) = true) := by
          cases uS' t (bO t (s.1 b))
          · rw [bz_f (by decide), bz_t (by decide)]
            decide
          · rw [bz_t rfl, bz_f (by decide)]
            decide
        rw [e1]
        unfold sgJ
        by_cases y2 : r = 0
        · rw [fi_pos y2, if_pos y2]
          exact po_th (K72 _ tp htp) (fun h => ⟨fun _ => h, fun z => absurd y2 z⟩) rfl
        · rw [fi_neg y2, if_neg y2]
          by_cases y3 : r = 1
          · rw [fi_pos y3, if_pos y3]
            exact po_th (K72 _ tp htp) (fun h => ⟨fun z => absurd z y2, fun _ => ⟨fun _ => h, fun z => absurd y3 z⟩⟩) rfl
          · rw [fi_neg y3, if_neg y3]
            exact po_th (K72 _ tp htp) (fun h => ⟨fun z => absurd z y2, fun _ => ⟨fun z => absurd z y3, fun _ => h⟩⟩) rfl
      by_cases y2 : t = 1
      · rw [fi_pos y2]
        exact po_th (K26 (Int64.ofInt 9223372036854775807) (by rw [y2]; decide)) (fun h => ⟨fun _ => ⟨fun z => absurd y1 z, fun _ => ⟨fun _ => h, fun z => absurd y2 z⟩⟩, fun z => absurd k4 z⟩) rfl
      · rw [fi_neg y2]
        exact po_th (K26 (Int64.ofInt 2147483647) (by rw [show t = 0 by omega]; decide)) (fun h => ⟨fun _ => ⟨fun z => absurd y1 z, fun _ => ⟨fun z => absurd z y2, fun _ => h⟩⟩, fun z => absurd k4 z⟩) rfl
    · rw [fi_pos y1, if_neg y1]
      rw [if_neg (show ¬ k = 5 by omega), if_neg (show ¬ k = 20 by omega), if_neg (show ¬ k = 28 by omega), if_neg (show ¬ k = 30 by omega)] at K100
      exact po_th K100 (fun h => ⟨fun _ => ⟨fun _ => h, fun z => absurd y1 z⟩, fun z => absurd k4 z⟩) rfl
  · rw [fi_neg k4, if_neg k4]
    exact po_th K100 (fun h => ⟨fun z => absurd z k4, fun _ => h⟩) rfl
end Ub
