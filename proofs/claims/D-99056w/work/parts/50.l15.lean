/-! L15: what a query of the model sees -/
def zMQ (I : zId) (P : zP) (X : zXd) : Prop := zML I P ∧ I 1862 1 = xnr X ∧ I 1862 3 = nI (xnt X) ∧ (∀ k, k < xnt X → I 1871 k = nI (xft X k)) ∧ ∀ i j, i < pnf P → j < pnf P → I 1867 (8 * i + j) = xrv X i j
/-- cells that a query of the model may write -/
def zmsc (x k : Nat) : Bool := (1875 ≤ x && x ≤ 1882) || x == 1868 || (1884 ≤ x && x ≤ 1889) || (1893 ≤ x && x ≤ 1895) || (x == 1860 && (k == 1 || (34 ≤ k && k < 37) || k == 41 || k == 52 || k == 53))
def zmf (I I' : zId) : Prop := ∀ x k, zmsc x k = false → I' x k = I x k
theorem zmf.rf {I : zId} : zmf I I := fun _ _ _ => rfl
theorem zmf.tr {I J L : zId} (h1 : zmf I J) (h2 : zmf J L) : zmf I L := fun x k h => (h2 x k h).trans (h1 x k h)
theorem zmf.zu {I J : zId} {x k : Nat} {v : Int32} (h : zmf I J) (hd : zmsc x k = true) : zmf I (zu J x k v) := fun y j hy => by
  rw [zu_off fun q => by obtain ⟨rfl, rfl⟩ := q; rw [hd] at hy; cases hy]
  exact h y j hy
theorem zmf.row {I J : zId} (h : zmf I J) {x : Nat} (hx : ∀ k, zmsc x k = false) : J x = I x := funext fun k => h x k (hx k)
theorem zmfr.mf {I J : zId} (h : zmfr I J) : zmf I J := fun x k hx => h x k (by
  simp only [zmsc, zdyn, Bool.or_eq_false_iff, Bool.and_eq_false_iff, decide_eq_false_iff_not, beq_eq_false_iff_ne, ne_eq] at hx ⊢
  omega)
theorem zupd.mf {a0 fr : Nat} {I J : zId} (h : zupd a0 fr I J) : zmf I J := fun x k hx => by
  simp only [zmsc, Bool.or_eq_false_iff, Bool.and_eq_false_iff, decide_eq_false_iff_not, beq_eq_false_iff_ne, ne_eq] at hx
  by_cases e : x = 1860
  · subst e; exact h.2.1 k (by omega)
  · exact congrFun (h.1 x (by omega) e) k
theorem zpkd.mf {fr : Nat} {I J : zId} (h : zpkd 1886 fr I J) : zmf I J := fun x k hx => by
  simp only [zmsc, Bool.or_eq_false_iff, Bool.and_eq_false_iff, decide_eq_false_iff_not, beq_eq_false_iff_ne, ne_eq] at hx
  exact congrFun (h.1 x (by omega)) k
theorem zpkd.mf3 {fr : Nat} {I J : zId} (h : zpkd 1893 fr I J) : zmf I J := fun x k hx => by
  simp only [zmsc, Bool.or_eq_false_iff, Bool.and_eq_false_iff, decide_eq_false_iff_not, beq_eq_false_iff_ne, ne_eq] at hx
  exact congrFun (h.1 x (by omega)) k
theorem zML.mf {I I' : zId} {P : zP} (h : zML I P) (e : zmf I I') : zML I' P := h.cg (e.row fun k => by simp [zmsc]) (e.row fun k => by simp [zmsc]) (e.row fun k => by simp [zmsc]) (e.row fun k => by simp [zmsc])
theorem zMQ.mf {I I' : zId} {P : zP} {X : zXd} (h : zMQ I P X) (e : zmf I I') : zMQ I' P X := by
  obtain ⟨h1, h2, h3, h4, h5⟩ := h
  have e2 : I' 1862 = I 1862 := e.row fun k => by simp [zmsc]
  have e3 : I' 1871 = I 1871 := e.row fun k => by simp [zmsc]
  have e4 : I' 1867 = I 1867 := e.row fun k => by simp [zmsc]
  exact ⟨h1.mf e, by rw [e2]; exact h2, by rw [e2]; exact h3, by rw [e3]; exact h4, by rw [e4]; exact h5⟩
/-! answers: a value, or what is thrown -/
def qC (q : Int32 ⊕ Nat) : Int32 ⊕ (String × Nat) := match q with
  | .inl v => .inl v
  | .inr c => .inr (if c = 1 then "java/util/NoSuchElementException" else "java/lang/IllegalArgumentException", 0)
def qC' (q : Int32 ⊕ Nat) : Int32 ⊕ (String × Nat) := match q with
  | .inl v => .inl v
  | .inr _ => .inr ("java/lang/IllegalArgumentException", 0)
def qV (q : Int32 ⊕ Nat) : Int32 := match q with
  | .inl v => v
  | .inr _ => 0
def qE (q : Int32 ⊕ Nat) : Int32 := match q with
  | .inl _ => 0
  | .inr c => nI c
/-- x in a range -/
def zib (x lo hi : Int32) : Int32 := if x < lo then 0 else if hi < x then 0 else 1
theorem zib_1 {x lo hi : Int32} (h1 : ¬ x < lo) (h2 : ¬ hi < x) : zib x lo hi = 1 := by unfold zib; rw [if_neg h1, if_neg h2]
theorem zib_0 {x lo hi : Int32} (h : x < lo ∨ hi < x) : zib x lo hi = 0 := by
  unfold zib
  by_cases c : x < lo
  · rw [if_pos c]
  · rw [if_neg c, if_pos (h.resolve_left c)]
theorem zib_nI {k n : Nat} (h : k ≤ n) (hn : n < 2147483648) : zib (nI k) 0 (nI n) = 1 := zib_1 (nI_pos (by omega)) (nI_nlt h hn)
theorem zib_cases (x : Int32) (n : Nat) (hn : n + 1 < 2147483648) : (∃ k, k ≤ n ∧ x = nI k) ∨ (zib x 0 (nI n) = 0 ∧ (x < 0 ∨ nI n < x)) := by
  rcases zir_cases x (n := n + 1) hn with ⟨f, h1, h2⟩ | h
  · exact Or.inl ⟨f, by omega, h2⟩
  · have : x < 0 ∨ nI n < x := h.imp id fun h => by
      have h1 := iLe.mp h
      have h2 := nI_toInt (n := n + 1) hn
      have h3 := nI_toInt (n := n) (by omega)
      refine iL.mpr ?_
      omega
    exact Or.inr ⟨zib_0 this, this⟩
theorem F_within_ok {K : zKd} {F : zFd} {I : zId} (x lo hi : Int32) : F_X1_within K F x lo hi I = some (zib x lo hi) := by
  unfold F_X1_within zib
  split
  · rfl
  · split <;> rfl
theorem F7_isIn_ok {I : zId} (x lo hi : Int32) : F_X7_isIn x.toInt64 lo.toInt64 hi.toInt64 I = some (zib x lo hi) := by
  have h1 : lg_cmp x.toInt64 lo.toInt64 < 0 ↔ x < lo := by
    have := lg_cmp_ge x.toInt64 lo.toInt64
    rw [Int64.le_iff_toInt_le, Int32.toInt_toInt64, Int32.toInt_toInt64] at this
    simp only [iL, iLe] at this ⊢
    omega
  have h2 : 0 < lg_cmp x.toInt64 hi.toInt64 ↔ hi < x := by
    have := lg_cmp_le x.toInt64 hi.toInt64
    rw [Int64.le_iff_toInt_le, Int32.toInt_toInt64, Int32.toInt_toInt64] at this
    simp only [iL, iLe] at this ⊢
    omega
  unfold F_X7_isIn zib
  by_cases c : x < lo
  · rw [if_pos c, if_pos (h1.mpr c)]
  · rw [if_neg c, if_neg (fun h => c (h1.mp h))]
    by_cases c2 : hi < x
    · rw [if_pos c2, if_pos (h2.mpr c2)]
    · rw [if_neg c2, if_neg (fun h => c2 (h2.mp h))]
theorem F7_isIn_0 {I : zId} (x hi : Int32) {h64 : Int64} (e : h64 = hi.toInt64) : F_X7_isIn x.toInt64 0 h64 I = some (zib x 0 hi) := by
  rw [e]
  exact F7_isIn_ok x 0 hi
section L15
variable {I : zId} {P : zP} {X : zXd}
theorem zib_le (x y : Int32) : (decide (zib x 0 (y - 1) = 0) || decide (zib x 0 (y - 1) = 1)) = true := by
  unfold zib
  split
  · rfl
  · split <;> rfl
theorem F7_isF_ok {f n : Nat} (hn : n < 1000) (e : I 1862 0 = nI n) (hf : f < n) : F_X7_isForest (nI f) I = some 1 := by
  unfold F_X7_isForest
  rw [F7_isIn_0 _ _ rfl, e]
  obtain ⟨m, rfl⟩ : ∃ m, n = m + 1 := ⟨n - 1, by omega⟩
  rw [nI_pred, zib_nI (by omega) (by omega)]
  rfl
theorem F7_isF_no {x : Int32} {n : Nat} (hn : n < 1000) (e : I 1862 0 = nI n) (h : x < 0 ∨ nI n ≤ x) : F_X7_isForest x I = some 0 := by
  unfold F_X7_isForest
  rw [F7_isIn_0 _ _ rfl, e]
  have : zib x 0 (nI n - 1) = 0 := zib_0 (h.imp id fun h => by
    have h1 := iLe.mp h
    have h3 := nI_toInt (n := n) (by omega)
    refine iL.mpr ?_
    rw [i_sub (by rw [i_1]; omega) (by rw [i_1]; omega), i_1]
    omega)
  rw [this]
  rfl
theorem F7_isB_ok {f n : Nat} (hn : n < 1000) (e : I 1862 2 = nI n) (hf : f < n) : F_X7_isBand (nI f) I = some 1 := by
  unfold F_X7_isBand
  rw [F7_isIn_0 _ _ rfl, e]
  obtain ⟨m, rfl⟩ : ∃ m, n = m + 1 := ⟨n - 1, by omega⟩
  rw [nI_pred, zib_nI (by omega) (by omega)]
  rfl
theorem F7_isB_no {x : Int32} {n : Nat} (hn : n < 1000) (e : I 1862 2 = nI n) (h : x < 0 ∨ nI n ≤ x) : F_X7_isBand x I = some 0 := by
  unfold F_X7_isBand
  rw [F7_isIn_0 _ _ rfl, e]
  have : zib x 0 (nI n - 1) = 0 := zib_0 (h.imp id fun h => by
    have h1 := iLe.mp h
    have h3 := nI_toInt (n := n) (by omega)
    refine iL.mpr ?_
    rw [i_sub (by rw [i_1]; omega) (by rw [i_1]; omega), i_1]
    omega)
  rw [this]
  rfl
theorem F7_isK_ok {f n : Nat} (hn : n < 1000) (e : I 1862 3 = nI n) (hf : f < n) : F_X7_isFort (nI f) I = some 1 := by
  unfold F_X7_isFort
  rw [F7_isIn_0 _ _ rfl, e]
  obtain ⟨m, rfl⟩ : ∃ m, n = m + 1 := ⟨n - 1, by omega⟩
  rw [nI_pred, zib_nI (by omega) (by omega)]
  rfl
theorem F7_isK_no {x : Int32} {n : Nat} (hn : n < 1000) (e : I 1862 3 = nI n) (h : x < 0 ∨ nI n ≤ x) : F_X7_isFort x I = some 0 := by
  unfold F_X7_isFort
  rw [F7_isIn_0 _ _ rfl, e]
  have : zib x 0 (nI n - 1) = 0 := zib_0 (h.imp id fun h => by
    have h1 := iLe.mp h
    have h3 := nI_toInt (n := n) (by omega)
    refine iL.mpr ?_
    rw [i_sub (by rw [i_1]; omega) (by rw [i_1]; omega), i_1]
    omega)
  rw [this]
  rfl
end L15
