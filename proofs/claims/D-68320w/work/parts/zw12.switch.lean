/-! switches -/
theorem fe_sw_spec {R : Type} {go : Nat → fm_L → List Value → FM → Option R} {pc : Nat} {d : Int} {L : fm_L} {st : List Value} {M : FM} {x : Int32} {r : R} : ∀ (offs : List Int) (lo : Int), fe_sw go pc d lo offs L st M x = some r →
    (∃ (k : Nat) (o : Int), offs[k]? = some o ∧ x = Int32.ofInt (lo + k) ∧ go (fe_tgt pc o) L st M = some r) ∨ ((∀ k : Nat, k < offs.length → x ≠ Int32.ofInt (lo + k)) ∧ go (fe_tgt pc d) L st M = some r) := by
  intro offs
  induction offs with
  | nil =>
    intro lo h
    exact Or.inr ⟨fun k hk => absurd hk (Nat.not_lt_zero k), h⟩
  | cons o t ih =>
    intro lo h
    unfold fe_sw at h
    simp only [fi_if] at h
    split at h
    · rename_i hx
      exact Or.inl ⟨0, o, rfl, by simpa using hx, h⟩
    · rename_i hx
      rcases ih (lo + 1) h with ⟨k, o', h1, h2, h3⟩ | ⟨h1, h2⟩
      · exact Or.inl ⟨k + 1, o', by simpa using h1, by rw [h2]; congr 1; push_cast; omega, h3⟩
      · refine Or.inr ⟨fun k hk => ?_, h2⟩
        cases k with
        | zero => simpa using hx
        | succ k =>
          have := h1 k (by simpa using hk)
          intro q
          apply this
          rw [q]
          congr 1
          push_cast
          omega
theorem fe_lsw_spec {R : Type} {go : Nat → fm_L → List Value → FM → Option R} {pc : Nat} {d : Int} {L : fm_L} {st : List Value} {M : FM} {x : Int32} {r : R} : ∀ ps : List (Int × Int), (∀ q ∈ ps, -2 ^ 31 ≤ q.1 ∧ q.1 < 2 ^ 31) → fe_lsw go pc d ps L st M x = some r →
    ∃ o : Int, Op.lookupswitch.offset ps d x.toInt = o ∧ (o = d ∨ ∃ q ∈ ps, q.2 = o) ∧ go (fe_tgt pc o) L st M = some r := by
  intro ps
  induction ps with
  | nil =>
    intro _ h
    exact ⟨d, rfl, Or.inl rfl, h⟩
  | cons q t ih =>
    intro hp h
    obtain ⟨v, o⟩ := q
    have hv := hp _ List.mem_cons_self
    unfold fe_lsw at h
    simp only [fi_if] at h
    split at h
    · rename_i hx
      refine ⟨o, ?_, Or.inr ⟨_, List.mem_cons_self, rfl⟩, h⟩
      subst hx
      have e : (Int32.ofInt v).toInt = v := Int32.toInt_ofInt_of_le hv.1 hv.2
      simp [Op.lookupswitch.offset, e]
    · rename_i hx
      obtain ⟨o', h1, h2, h3⟩ := ih (fun q hq => hp q (List.mem_cons_of_mem _ hq)) h
      refine ⟨o', ?_, ?_, h3⟩
      · have hne : v ≠ x.toInt := by
          intro q
          apply hx
          rw [q, Int32.ofInt_toInt]
        rw [← h1]
        simp [Op.lookupswitch.offset, hne]
      · rcases h2 with h2 | ⟨q, h2, h4⟩
        · exact Or.inl h2
        · exact Or.inr ⟨q, List.mem_cons_of_mem _ h2, h4⟩
section FsS
variable {E : FE} {p : Program} {l : Launch} {e : Env} {R : Room} {s : State} {m : MethodId} {args : Array Value} {below : List Frame} {meth : Method} {c : Code} {nL NF SF N0 S0 : Nat} {Q : State → Prop} {cc : ByteArray} {own : String} {ret : Option FieldType} {S : FS}
def fs_tsok (cc : ByteArray) (pc nx : Nat) (d lo hi : Int) (offs : Array Int) : Bool :=
  decide (decode cc pc = .ok (.tableswitch d lo hi offs, nx - pc)) && decide (-2 ^ 31 ≤ lo) && decide (hi < 2 ^ 31) && decide (hi = lo + offs.toList.length - 1) && fs_tg pc d && offs.toList.all (fs_tg pc)
theorem fs_tsw {pc nx : Nat} {d lo hi : Int} {offs : Array Int} (C : fs_C E p R s m args meth c cc own nL ret NF SF N0 S0) (hk : fs_tsok cc pc nx d lo hi offs = true) : fs_Snd S own cc ret nL E p l e R s m args below meth c NF SF N0 S0 Q pc nx (.tableswitch d lo hi offs) := by
  obtain ⟨hx, hb, hml, hown, hwm, hlk0, hr, hRR, hE⟩ := C
  simp only [fs_tsok, Bool.and_eq_true, decide_eq_true_eq, List.all_eq_true] at hk
  obtain ⟨⟨⟨⟨⟨hd, h1⟩, h2⟩, h3⟩, h4⟩, h5⟩ := hk
  intro Rt go kr r L st M h hgo hret
  dsimp only [fx_step, fe_step] at h
  try simp only [fi_if] at h
  split at h
  · rename_i x st'
    rcases fe_sw_spec _ _ h with ⟨k, o, e1, e2, e3⟩ | ⟨e1, e2⟩
    · have hk : k < offs.toList.length := (List.getElem?_eq_some_iff.mp e1).1
      have e : x.toInt = lo + k := by
        rw [e2]
        exact Int32.toInt_ofInt_of_le (by omega) (by omega)
      refine fs_pure (hgo _ _ _ _ e3) (fun H ls locs cells slots kk => ?_)
      refine lv_tableIn hx hb hd (by omega) (by omega) ?_ (fs_tg_d (h5 o (List.mem_of_getElem? e1))) kk
      have e4 : (x.toInt - lo).toNat = k := by omega
      rw [e4, ← Array.getElem?_toList]
      exact e1
    · refine fs_pure (hgo _ _ _ _ e2) (fun H ls locs cells slots kk => ?_)
      refine lv_tableOut hx hb hd ?_ (fs_tg_d h4) kk
      rcases Int.lt_or_le x.toInt lo with q | q
      · exact Or.inl q
      · rcases Int.lt_or_le hi x.toInt with q2 | q2
        · exact Or.inr q2
        · exact absurd (by rw [show lo + ((x.toInt - lo).toNat : Int) = x.toInt by omega, Int32.ofInt_toInt]) (e1 (x.toInt - lo).toNat (by omega))
  · cases h
def fs_lsok (cc : ByteArray) (pc nx : Nat) (d : Int) (ps : Array (Int × Int)) : Bool :=
  decide (decode cc pc = .ok (.lookupswitch d ps, nx - pc)) && ps.toList.all (fun q => decide (-2 ^ 31 ≤ q.1) && decide (q.1 < 2 ^ 31) && fs_tg pc q.2) && fs_tg pc d && (ps.toList.zip (ps.toList.drop 1)).all (fun (a, next) => a.1 < next.1)
theorem fs_lsw {pc nx : Nat} {d : Int} {ps : Array (Int × Int)} (C : fs_C E p R s m args meth c cc own nL ret NF SF N0 S0) (hk : fs_lsok cc pc nx d ps = true) : fs_Snd S own cc ret nL E p l e R s m args below meth c NF SF N0 S0 Q pc nx (.lookupswitch d ps) := by
  obtain ⟨hx, hb, hml, hown, hwm, hlk0, hr, hRR, hE⟩ := C
  unfold fs_lsok at hk
  rw [Bool.and_eq_true, Bool.and_eq_true, Bool.and_eq_true] at hk
  obtain ⟨⟨⟨hd, h1⟩, h2⟩, h3⟩ := hk
  have hd := of_decide_eq_true hd
  have h1 : ∀ q ∈ ps.toList, (-2 ^ 31 ≤ q.1 ∧ q.1 < 2 ^ 31) ∧ fs_tg pc q.2 = true := fun q hq => by
    have := List.all_eq_true.mp h1 q hq
    simpa using this
  intro Rt go kr r L st M h hgo hret
  dsimp only [fx_step, fe_step] at h
  try simp only [fi_if] at h
  split at h
  · rename_i x st'
    obtain ⟨o, e1, e2, e3⟩ := fe_lsw_spec _ (fun q hq => (h1 q hq).1) h
    refine fs_pure (hgo _ _ _ _ e3) (fun H ls locs cells slots kk => ?_)
    refine lv_lookup hx hb hd h3 e1 ?_ kk
    rcases e2 with rfl | ⟨q, hq, rfl⟩
    · exact fs_tg_d h2
    · exact fs_tg_d (h1 q hq).2
  · cases h
end FsS
