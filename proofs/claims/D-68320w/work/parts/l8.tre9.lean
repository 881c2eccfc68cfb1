/-! trees: documents; the twin's tree as one (printed by gen/l8.py) -/
set_option maxRecDepth 100000
/-- a part: 1 a node, 2 its end, 3 a property, 9 the end -/
abbrev Itm : Type := Nat × List Nat × List Nat
abbrev Rst : Type := List Nat × List (List Nat)
def rd1 (i : Itm) (s : Rst) : Rst := if i.1 = 1 then (padL (((s.1 ++ be4 1) ++ i.2.1) ++ [0]), s.2) else if i.1 = 3 then (padL ((((s.1 ++ be4 3) ++ be4 i.2.2.length) ++ be4 (plN i.2.1 s.2)) ++ i.2.2), addN i.2.1 s.2) else (s.1 ++ be4 i.1, s.2)
def rdr : List Itm → Rst → Rst
  | [], s => s
  | i :: t, s => rdr t (rd1 i s)
theorem rdr_a (a b : List Itm) (s : Rst) : rdr (a ++ b) s = rdr b (rdr a s) := by
  induction a generalizing s with
  | nil => rfl
  | cons i t ih => exact ih (rd1 i s)
def pj (st : TSn) : Rst := (st.1, st.2.1)
def dNo (s : Nat) : List Itm := [(1, tx s, [])]
def dPp (s : Nat) (X : List Nat) : List Itm := [(3, tx s, X)]
def dDo : List Itm := [(2, [], [])]
def be8 (n : Nat) : List Nat := be4 (n / 4294967296) ++ be4 n
def dNu (s v : Nat) : List Itm := dPp s (be4 v)
def dTx (s u : Nat) : List Itm := dPp s (tx u ++ [0])
def dNt (s : Nat) : List Itm := dPp s []
def dRg (f m : Nat) : List Itm := dPp 132 (be8 f ++ be8 m)
def dCe (x y : Nat) : List Itm := dNu 101 x ++ dNu 103 y
def lnL (one two : Nat) : Nat → Nat → List Nat
  | 0, _ => []
  | m + 1, h => be4 (h + 1) ++ (be4 one ++ (be4 (h + 1) ++ (be4 two ++ lnL one two m (h + 1))))
def dLn (p one two : Nat) : List Itm := dPp 123 (lnL one two p 0)
def dF9 : List Itm := [(9, [], [])]
section Dc
variable {s u v f m h p one two x y : Nat} {st : TSn} {X : List Nat}
/-- a value is put into its property -/
theorem ptL_v {S X : List Nat} {a b c d : Nat} {la : Nat} (hla : la = S.length + 4) : ptL ((((S ++ be4 a) ++ be4 b) ++ be4 c) ++ X) la (be4 d) = (((S ++ be4 a) ++ be4 d) ++ be4 c) ++ X := by
  unfold ptL
  have l4 : ∀ n, (be4 n).length = 4 := fun _ => rfl
  have e1 : (((S ++ be4 a) ++ be4 b) ++ be4 c) ++ X = (S ++ be4 a) ++ (be4 b ++ (be4 c ++ X)) := by simp only [List.append_assoc]
  have e2 : (((S ++ be4 a) ++ be4 d) ++ be4 c) ++ X = ((S ++ be4 a) ++ be4 d) ++ (be4 c ++ X) := by simp only [List.append_assoc]
  have h1 : (S ++ be4 a).length = la := by rw [List.length_append, l4, hla]
  rw [e1, e2]
  congr 1
  · rw [← h1, List.take_left']
    rfl
  · rw [show la + 4 = ((S ++ be4 a) ++ be4 b).length by rw [List.length_append, h1, l4], ← List.append_assoc, List.drop_left']
    rfl
/-- what stands behind an open property, once it is closed -/
theorem e_Pp {st0 : TSn} (h1 : st.1 = (tO s st0).1 ++ X) (h2 : st.2.1 = (tO s st0).2.1) (h3 : st.2.2 = (tO s st0).2.2) : pj (tQ st) = rdr (dPp s X) (pj st0) := by
  obtain ⟨l1, l2⟩ := tO_l (s := s) (st := st0)
  have e0 : (tO s st0).1 = ((st0.1 ++ be4 3) ++ be4 0) ++ be4 (plN (tx s) st0.2.1) := rfl
  have el : st.1.length - st.2.2 - 8 = X.length := by
    rw [h1, h3, l2, List.length_append, l1]
    omega
  unfold tQ tP pj
  dsimp only
  rw [el, h1, h3, l2, e0, ptL_v rfl, h2]
  show (_, _) = rd1 (3, tx s, X) (st0.1, st0.2.1)
  unfold rd1
  rw [if_neg (show ¬ (3 : Nat) = 1 by decide), if_pos rfl]
  rfl
theorem e_No : pj (tNo s st) = rdr (dNo s) (pj st) := by
  show _ = rd1 (1, tx s, []) (pj st)
  unfold rd1
  rw [if_pos rfl]
  rfl
theorem e_Nu : pj (tNu s v st) = rdr (dNu s v) (pj st) := e_Pp rfl rfl rfl
theorem e_Tx : pj (tTx s u st) = rdr (dTx s u) (pj st) := e_Pp (by show (tO s st).1 ++ tx u ++ [0] = _; rw [List.append_assoc]) rfl rfl
theorem e_Nt : pj (tNt s st) = rdr (dNt s) (pj st) := e_Pp (List.append_nil _).symm rfl rfl
theorem e_Rg : pj (tRg f m st) = rdr (dRg f m) (pj st) := e_Pp (by
  show ((((tO 132 st).1 ++ be4 _) ++ be4 _) ++ be4 _) ++ be4 _ = _
  unfold be8
  simp only [List.append_assoc]) rfl rfl
theorem e_Ce : pj (tCe x y st) = rdr (dCe x y) (pj st) := by
  unfold tCe dCe
  rw [rdr_a, e_Nu, e_Nu]
theorem e_Do : pj (tDo st) = rdr dDo (pj st) := rfl
theorem e_F9 : pj (tF 9 st) = rdr dF9 (pj st) := rfl
theorem lnL_e : ∀ m h (st : TSn), tLs one two m h st = (st.1 ++ lnL one two m h, st.2.1, st.2.2)
  | 0, _, st => by
    show st = (st.1 ++ [], st.2.1, st.2.2)
    rw [List.append_nil]
  | m + 1, h, st => by
    show tLs one two m (h + 1) (tF two (tF (h + 1) (tF one (tF (h + 1) st)))) = _
    rw [lnL_e m (h + 1)]
    show ((((st.1 ++ be4 (h + 1)) ++ be4 one) ++ be4 (h + 1)) ++ be4 two ++ lnL one two m (h + 1), st.2.1, st.2.2) = (st.1 ++ (be4 (h + 1) ++ (be4 one ++ (be4 (h + 1) ++ (be4 two ++ lnL one two m (h + 1))))), st.2.1, st.2.2)
    simp only [List.append_assoc]
theorem e_Ln : pj (tLn p one two st) = rdr (dLn p one two) (pj st) := by
  unfold tLn
  rw [lnL_e]
  exact e_Pp rfl rfl rfl

def dPr (s h : Nat) : List Itm := (dNo s) ++ (dTx 117 110) ++ (dNu 132 (h)) ++ (dTx 137 129) ++ (dTx 109 146) ++ (dTx 124 142) ++ (dTx 127 139) ++ (dNo 119) ++ (dNu 102 (1)) ++ (dNt 119) ++ (dTx 109 148) ++ (dNu 130 (h + 1)) ++ dDo ++ dDo
theorem e_Pr : pj (tPr s h st) = rdr (dPr s h) (pj st) := by
  unfold tPr dPr
  simp only [rdr_a, e_Do, e_No, e_Nt, e_Nu, e_Tx]
def dDv (p : Nat) : List Itm := (dNo 118) ++ (dTx 109 147) ++ (dRg 1048576 4096) ++ dDo ++ (dNo 141) ++ (dTx 109 150) ++ (dLn p 3 7) ++ (dRg 33554432 65536) ++ dDo ++ (dNo 120) ++ (dNu 102 (1)) ++ (dNt 119) ++ (dTx 109 145) ++ (dLn p 11 9) ++ (dRg 201326592 4194304) ++ (dNu 136 (31)) ++ (dNu 130 (p + 1)) ++ dDo ++ (dNo 133) ++ (dTx 109 149) ++ (dRg 268435456 256) ++ (dNu 122 (10)) ++ (dNu 121 (p + 1)) ++ dDo ++ (dNo 106) ++ (dTx 109 143) ++ (dRg 268439552 4096) ++ (dNu 122 (1)) ++ (dNu 121 (p + 1)) ++ dDo
theorem e_Dv : pj (tDv p st) = rdr (dDv p) (pj st) := by
  unfold tDv dDv
  simp only [rdr_a, e_Do, e_Ln, e_No, e_Nt, e_Nu, e_Rg, e_Tx]
def dM0 : List Itm := (dNo 100) ++ (dCe 2 2) ++ (dTx 109 144) ++ (dTx 128 107) ++ (dNo 108) ++ (dTx 138 104) ++ dDo ++ (dNo 116) ++ (dCe 1 0) ++ (dNu 140 (10000000))
theorem e_M0 : pj (tM0  st) = rdr (dM0 ) (pj st) := by
  unfold tM0 dM0
  simp only [rdr_a, e_Ce, e_Do, e_No, e_Nu, e_Tx]
def dM1 (p : Nat) : List Itm := dDo ++ (dNo 126) ++ (dTx 117 125) ++ (dRg 2147483648 4194304) ++ dDo ++ (dNo 135) ++ (dCe 2 2) ++ (dTx 109 134) ++ (dNt 131) ++ (dDv p) ++ dDo ++ dDo ++ dF9
theorem e_M1 : pj (tM1 p st) = rdr (dM1 p) (pj st) := by
  unfold tM1 dM1
  simp only [rdr_a, e_Ce, e_Do, e_Dv, e_F9, e_No, e_Nt, e_Rg, e_Tx]
def dPs : Nat → Nat → List Itm
  | 0, _ => []
  | m + 1, h => dPr (112 + h) h ++ dPs m (h + 1)
theorem e_Ps : ∀ m h (st : TSn), pj (tPs m h st) = rdr (dPs m h) (pj st)
  | 0, _, _ => rfl
  | m + 1, h, st => by
    show pj (tPs m (h + 1) (tPr (112 + h) h st)) = rdr (dPr (112 + h) h ++ dPs m (h + 1)) (pj st)
    rw [e_Ps m (h + 1), e_Pr, rdr_a]
/-- the document of the machine -/
def docT (p : Nat) : List Itm := dM0 ++ (dPs p 0 ++ dM1 p)
theorem e_M {la : Nat} : pj (tM1 p (tPs p 0 (tM0 ([], [], la)))) = rdr (docT p) ([], []) := by
  unfold docT
  rw [rdr_a, rdr_a, e_M1, e_Ps, e_M0]
  rfl
end Dc
