/-! stores into arrays; then all plain instructions -/
theorem fs_Rel_arr {E : FE} (hE : fs_good E) {M M' : FM} {H H' : Heap} {a t idx : Nat} {v : Value} {cA : ClassId} (hR : fs_Rel E M H) (hcl : M.2.2 0 a 0 = t) (ht : 901 ≤ t) (hw : E.2.2.2.2.2.2.2 t = true) (q1 : ArrOfT E.1 cA (E.2.2.2.2.2.2.1 t)) (q2 : va_RA E.1 cA (E.2.2.2.2.2.2.1 t))
    (hlen : M.2.2 1 a 0 < 2 ^ 31) (h1 : ∀ f b i : Nat, b ≠ a → M'.1 f b i = M.1 f b i ∧ M'.2.1 f b i = M.2.1 f b i ∧ M'.2.2 f b i = M.2.2 f b i) (h0 : M'.2.2 0 a 0 = M.2.2 0 a 0) (hl : M'.2.2 1 a 0 = M.2.2 1 a 0)
    (e : H'[fs_ra E a]? = some ((arrV cA (M.2.2 1 a 0) (fs_av E M t a)).setSlot idx v)) (hs : H'.size = H.size) (ho : ∀ q : Nat, q ≠ fs_ra E a → H'[q]? = H[q]?) (hav : fs_av E M' t a = updV (fs_av E M t a) idx v) (hby : t = 903 → fits .byte v = true) : fs_Rel E M' H' := by
  refine fs_Rel_at hE hR (by omega) (by rw [hcl]; exact hw) h1 h0 hs ho ?_
  rw [hcl]
  unfold fs_cell
  rw [if_neg (by omega)]
  refine ⟨cA, q1, q2, ?_, by rw [hl]; exact hlen, fun h j => ?_⟩
  · rw [e, arrV_store, hl, hav]
  · rw [hav]
    subst h
    unfold updV
    split
    · exact hby rfl
    · exact fs_arr_b hR hcl j
section FsQ
variable {E : FE} {p : Program} {l : Launch} {e : Env} {R : Room} {s : State} {m : MethodId} {args : Array Value} {below : List Frame} {meth : Method} {c : Code} {nL NF SF N0 S0 : Nat} {Q : State → Prop} {cc : ByteArray} {own : String} {ret : Option FieldType} {S : FS}
/-- a step that stores: the next memory, the next heap -/
theorem fs_sto {pc pc' : Nat} {L : fm_L} {st st' : List Value} {M M' : FM} (hnx : fm_nx M' = fm_nx M) (hns : fm_ns M' = fm_ns M) (k : fs_G E p l e R s m args below meth c nL NF SF N0 S0 Q pc' L st' M')
    (h : ∀ (H : Heap) (ls : Array Slot) (locs : List Loc) (cells slots : Nat), fs_Rel E M H → (∀ (H' : Heap) (a i : Nat), fs_Rel E M' H' → E.2.1.size ≤ a → W p l e R s m args below meth c H' (locs ++ [⟨a, i⟩]) cells slots Q (F0 m pc' ls (st'.map (fs_tr E)))) → W p l e R s m args below meth c H locs cells slots Q (F0 m pc ls (st.map (fs_tr E)))) : fs_G E p l e R s m args below meth c nL NF SF N0 S0 Q pc L st M := by
  refine ⟨by rw [← hnx, ← hns]; exact k.1, fun H ls locs cells slots h1 h2 h3 h4 h5 => h _ _ _ _ _ h1 (fun H' a i hR' ha => k.2 H' ls _ cells slots hR' h2 ?_ (by rw [hnx]; exact h4) (by rw [hns]; exact h5))⟩
  intro q hq
  rcases List.mem_append.mp hq with hq | hq
  · exact h3 q hq
  · rw [List.mem_singleton.mp hq]
    exact ha
theorem fs_ra_new {a : Nat} (h : 1000 ≤ a) : E.2.1.size ≤ fs_ra E a := by
  unfold fs_ra
  rw [if_neg (by omega)]
  omega
theorem fs_ast {t : Nat} {op : Int32 → Int32} {ins : Instr} {pc nx : Nat} (h1 : 901 ≤ t) (h2 : t < 910) (h3 : t ≠ 902) (hE : fs_good E) (hwr : E.2.2.2.2.2.2.2 t = true) (hwm : E.1.WarmedH s.vm)
    (hs : ∀ (Rt : Type) (go : Nat → fm_L → List Value → FM → Option Rt) (kr : Option Value → FM → Option Rt) (L : fm_L) (st : List Value) (M : FM), fx_step S go kr ins pc nx L st M = fe_ast go t op nx L st M)
    (hw : ∀ (H : Heap) (ls : Array Slot) (locs : List Loc) (cells slots : Nat) (a : Addr) (cell : Cell) (i x : Int32) (rest : List Value), H[a]? = some cell → s.isArrayOf cell (E.2.2.2.2.2.2.1 t) → cell.vm ≠ .unknown → ¬ (i < 0 ∨ cell.slots.size ≤ i.toNatClampNeg) →
      (∀ H' : Heap, H'[a]? = some (cell.setSlot i.toNatClampNeg (.int (op x))) → H'.size = H.size → (∀ q, q ≠ a → H'[q]? = H[q]?) → W p l e R s m args below meth c H' (locs ++ [⟨a, i.toNatClampNeg⟩]) cells slots Q (F0 m nx ls rest)) → W p l e R s m args below meth c H locs cells slots Q (F0 m pc ls (.int x :: .int i :: .ref a :: rest)))
    (hop : t = 903 → ∀ x, fits .byte (.int (op x)) = true) : fs_Snd S own cc ret nL E p l e R s m args below meth c NF SF N0 S0 Q pc nx ins := by
  intro Rt go kr r L st M h hgo hret
  rw [hs] at h
  unfold fe_ast at h
  simp only [fi_if] at h
  split at h
  · rename_i v i a st'
    split at h
    · rename_i hq
      obtain ⟨hq1, hq2⟩ := hq
      refine fs_sto (M' := fm_sI M 3 a i.toNatClampNeg (op v)) rfl rfl (hgo _ _ _ _ h) (fun H ls locs cells slots hR kk => ?_)
      obtain ⟨t', cA, t1, t2, t3, t4, t5, t6, t7, q1, q2⟩ := fs_arr (s := s) hR (by omega) hq1 hwm
      obtain rfl : t' = t := by omega
      have e : ((Value.int v :: Value.int i :: Value.ref a :: st').map (fs_tr E)) = .int v :: .int i :: .ref (fs_ra E a) :: st'.map (fs_tr E) := by
        show Value.int v :: Value.int i :: fs_rv E a :: _ = _
        rw [fs_rv_ne t6]
      rw [e]
      refine hw H ls locs cells slots _ _ i v _ t5 (t4 _ _) (by simp [arrV]) (fs_vin hq2 _ _) (fun H' e1 e2 e3 => kk H' _ _ ?_ (fs_ra_new (fs_wr hR (by rw [t3]; exact hwr))))
      refine fs_Rel_arr hE hR t3 h1 hwr q1 q2 t7 (fun f b j hb => ⟨by simp [fm_sI, hb], rfl, rfl⟩) rfl rfl e1 e2 e3 ?_ (fun h => hop h v)
      funext j
      by_cases hj : j = i.toNatClampNeg <;> simp [fs_av, updV, fm_sI, hj, h2, h3]
    · cases h
  · cases h
theorem fs_astl {pc : Nat} (hE : fs_good E) (hwr : E.2.2.2.2.2.2.2 902 = true) (hwm : E.1.WarmedH s.vm) (hx : p.tables.exec = Jvm.exec) (hb : c.code = cc) (hd : decode cc pc = .ok (.lastore, 1)) :
    fs_Snd S own cc ret nL E p l e R s m args below meth c NF SF N0 S0 Q pc (pc + 1) .lastore := by
  intro Rt go kr r L st M h hgo hret
  change fe_astl go (pc + 1) L st M = some r at h
  unfold fe_astl at h
  simp only [fi_if] at h
  split at h
  · rename_i v i a st'
    split at h
    · rename_i hq
      obtain ⟨hq1, hq2⟩ := hq
      refine fs_sto (M' := fm_sL M 3 a i.toNatClampNeg v) rfl rfl (hgo _ _ _ _ h) (fun H ls locs cells slots hR kk => ?_)
      obtain ⟨t', cA, t1, t2, t3, t4, t5, t6, t7, q1, q2⟩ := fs_arr (s := s) hR (by omega) hq1 hwm
      obtain rfl : t' = 902 := by omega
      have e : ((Value.long v :: Value.int i :: Value.ref a :: st').map (fs_tr E)) = .long v :: .int i :: .ref (fs_ra E a) :: st'.map (fs_tr E) := by
        show Value.long v :: Value.int i :: fs_rv E a :: _ = _
        rw [fs_rv_ne t6]
      rw [e]
      rw [hE.2.2.1.2.1] at t4
      refine W.last hx hb t5 (t4 _ _) (by simp [arrV]) (fs_vin hq2 _ _) rfl rfl hd (fun H' e1 e2 e3 => kk H' _ _ ?_ (fs_ra_new (fs_wr hR (by rw [t3]; exact hwr))))
      refine fs_Rel_arr hE hR t3 (by omega) hwr q1 q2 t7 (fun f b j hb => ⟨rfl, by simp [fm_sL, hb], rfl⟩) rfl rfl e1 e2 e3 ?_ (fun h => absurd h (by decide))
      funext j
      by_cases hj : j = i.toNatClampNeg <;> simp [fs_av, updV, fm_sL, hj]
    · cases h
  · cases h
end FsQ
