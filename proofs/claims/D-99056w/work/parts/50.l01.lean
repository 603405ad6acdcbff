/-! L01: the plain law: words for what a store holds -/
theorem zg_t {α : Type} {b : Bool} {x : Option α} (h : b = true) : zg b x = x := by rw [h]; rfl
theorem zlet_e {α β : Type} (a : α) (f : α → β) : zlet a f = f a := rfl
theorem zb1_e {α γ : Type} (a : α) (f : α → Option γ) : zb1 (some a) f = f a := rfl
theorem zb2_e {α β γ : Type} (a : α) (b : β) (f : α → β → Option γ) : zb2 (some (a, b)) f = f a b := rfl
theorem zb3_e {a b c r : Type} (x : a) (y : b) (z : c) (f : a → b → c → Option r) : zb3 (some (x, y, z)) f = f x y z := rfl
theorem zin_n {k n : Nat} (h : k < n) (hn : n < 2 ^ 31 := by decide) : zin (nI k) n = true := zin_nI h hn
theorem nI_c {n : Nat} (h : n < 2147483648) : (nI n).toNatClampNeg = n := nI_clamp h
/-- a State's layout: o, its tables o + 1 .. o + 9 -/
def zSL (K : zKd) (F : zFd) (o : Nat) : Prop := 600 ≤ o ∧ K o = some (5, 0) ∧ (F o 0 = some (o + 1) ∧ F o 1 = some (o + 2) ∧ F o 2 = some (o + 3) ∧ F o 3 = some (o + 4) ∧ F o 4 = some (o + 5) ∧ F o 5 = some (o + 6) ∧ F o 6 = some (o + 7) ∧ F o 7 = some (o + 8) ∧ F o 8 = some (o + 9)) ∧ K (o + 1) = some (64, 8) ∧ K (o + 2) = some (64, 8) ∧ K (o + 3) = some (64, 8) ∧ K (o + 4) = some (64, 6) ∧ K (o + 5) = some (64, 6) ∧ K (o + 6) = some (64, 6) ∧ K (o + 7) = some (64, 6) ∧ K (o + 8) = some (64, 6) ∧ K (o + 9) = some (64, 6)
/-- the state of a game: rows (sables, black, rest; bows, at, seen, store, owes, dead; year, paid, foxes) -/
abbrev zS : Type := Nat → Nat → Int32
def zlm (nf nb r : Nat) : Nat := if r < 3 then nf else if r < 9 then nb else if r = 9 then 3 else 0
/-- what is told once: forests, bands; tax, fox, limit; room, growth by forests; what a rule says -/
abbrev zP : Type := (Nat × Nat) × (Int32 × Int32 × Int32) × ((Nat → Int32) × (Nat → Int32)) × Option ((Nat → Int32) → Int32)
abbrev pnf (P : zP) : Nat := P.1.1
abbrev pnb (P : zP) : Nat := P.1.2
abbrev ptax (P : zP) : Int32 := P.2.1.1
abbrev pfox (P : zP) : Int32 := P.2.1.2.1
abbrev plim (P : zP) : Int32 := P.2.1.2.2
abbrev prm (P : zP) : Nat → Int32 := P.2.2.1.1
abbrev pgr (P : zP) : Nat → Int32 := P.2.2.1.2
abbrev phv (P : zP) : Option ((Nat → Int32) → Int32) := P.2.2.2
/-- the state that a State of the component holds -/
def zcv (nf nb : Nat) (I : zId) (o : Nat) : zS := fun r j => if j < zlm nf nb r then (if r < 9 then I (o + 1 + r) j else I o (9 + j)) else 0
/-- the state that the model holds -/
def zmrow (r : Nat) : Nat := if r < 3 then 1875 + r else if r = 3 then 1868 else 1874 + r
def zmv2 (nf nb : Nat) (I : zId) : zS := fun r j => if j < zlm nf nb r then (if r < 9 then I (zmrow r) j else I 1860 (34 + j)) else 0
section L01
variable {nf nb : Nat} {I : zId} {o j : Nat} {v : Int32}
theorem zcv0 (h : j < nf) : zcv nf nb I o 0 j = I (o + 1) j := if_pos h
theorem zcv1 (h : j < nf) : zcv nf nb I o 1 j = I (o + 2) j := if_pos h
theorem zcv2 (h : j < nf) : zcv nf nb I o 2 j = I (o + 3) j := if_pos h
theorem zcv3 (h : j < nb) : zcv nf nb I o 3 j = I (o + 4) j := if_pos h
theorem zcv4 (h : j < nb) : zcv nf nb I o 4 j = I (o + 5) j := if_pos h
theorem zcv5 (h : j < nb) : zcv nf nb I o 5 j = I (o + 6) j := if_pos h
theorem zcv6 (h : j < nb) : zcv nf nb I o 6 j = I (o + 7) j := if_pos h
theorem zcv7 (h : j < nb) : zcv nf nb I o 7 j = I (o + 8) j := if_pos h
theorem zcv8 (h : j < nb) : zcv nf nb I o 8 j = I (o + 9) j := if_pos h
theorem zcv90 : zcv nf nb I o 9 0 = I o 9 := rfl
theorem zcv91 : zcv nf nb I o 9 1 = I o 10 := rfl
theorem zcv92 : zcv nf nb I o 9 2 = I o 11 := rfl
theorem zcv_zu (r : Nat) (hr : r < 9) (h : j < zlm nf nb r) : zcv nf nb (zu I (o + 1 + r) j v) o = zu (zcv nf nb I o) r j v := by
  funext r' j'
  unfold zcv zu
  by_cases h1 : r' = r ∧ j' = j
  · obtain ⟨rfl, rfl⟩ := h1
    simp [h, hr]
  · rw [if_neg h1]
    by_cases h2 : r' < 9
    · have : ¬ (o + 1 + r' = o + 1 + r ∧ j' = j) := fun q => h1 ⟨by omega, q.2⟩
      simp only [if_pos h2, if_neg this]
    · have : ¬ (o = o + 1 + r ∧ 9 + j' = j) := fun q => by omega
      simp only [if_neg h2, if_neg this]
theorem zcv_zu9 (h : j < 3) : zcv nf nb (zu I o (9 + j) v) o = zu (zcv nf nb I o) 9 j v := by
  funext r' j'
  unfold zcv zu
  by_cases h1 : r' = 9 ∧ j' = j
  · obtain ⟨rfl, rfl⟩ := h1
    simp [h, zlm]
  · rw [if_neg h1]
    by_cases h2 : r' < 9
    · have : ¬ (o + 1 + r' = o ∧ j' = 9 + j) := fun q => by omega
      simp only [if_pos h2, if_neg this]
    · by_cases h3 : r' = 9
      · have : ¬ (9 + j' = 9 + j) := fun q => h1 ⟨h3, by omega⟩
        simp only [if_neg h2, true_and, if_neg this]
      · have : ¬ j' < zlm nf nb r' := by
          unfold zlm
          rw [if_neg (by omega), if_neg h2, if_neg h3]
          omega
        simp only [if_neg this]
theorem zcvu0 (h : j < nf) : zcv nf nb (zu I (o + 1) j v) o = zu (zcv nf nb I o) 0 j v := zcv_zu 0 (by decide) h
theorem zcvu1 (h : j < nf) : zcv nf nb (zu I (o + 2) j v) o = zu (zcv nf nb I o) 1 j v := zcv_zu 1 (by decide) h
theorem zcvu2 (h : j < nf) : zcv nf nb (zu I (o + 3) j v) o = zu (zcv nf nb I o) 2 j v := zcv_zu 2 (by decide) h
theorem zcvu3 (h : j < nb) : zcv nf nb (zu I (o + 4) j v) o = zu (zcv nf nb I o) 3 j v := zcv_zu 3 (by decide) h
theorem zcvu4 (h : j < nb) : zcv nf nb (zu I (o + 5) j v) o = zu (zcv nf nb I o) 4 j v := zcv_zu 4 (by decide) h
theorem zcvu5 (h : j < nb) : zcv nf nb (zu I (o + 6) j v) o = zu (zcv nf nb I o) 5 j v := zcv_zu 5 (by decide) h
theorem zcvu6 (h : j < nb) : zcv nf nb (zu I (o + 7) j v) o = zu (zcv nf nb I o) 6 j v := zcv_zu 6 (by decide) h
theorem zcvu7 (h : j < nb) : zcv nf nb (zu I (o + 8) j v) o = zu (zcv nf nb I o) 7 j v := zcv_zu 7 (by decide) h
theorem zcvu8 (h : j < nb) : zcv nf nb (zu I (o + 9) j v) o = zu (zcv nf nb I o) 8 j v := zcv_zu 8 (by decide) h
theorem zcvu90 : zcv nf nb (zu I o 9 v) o = zu (zcv nf nb I o) 9 0 v := zcv_zu9 (j := 0) (by decide)
theorem zcvu91 : zcv nf nb (zu I o 10 v) o = zu (zcv nf nb I o) 9 1 v := zcv_zu9 (j := 1) (by decide)
theorem zcvu92 : zcv nf nb (zu I o 11 v) o = zu (zcv nf nb I o) 9 2 v := zcv_zu9 (j := 2) (by decide)
theorem zcv_cg {I' : zId} (h : ∀ x, o ≤ x → x ≤ o + 9 → (x = o → ∀ j, j < 3 → I' x (9 + j) = I x (9 + j)) ∧ (x ≠ o → ∀ j, I' x j = I x j)) : zcv nf nb I' o = zcv nf nb I o := by
  funext r j
  unfold zcv
  split
  · rename_i hj
    split
    · rename_i hr
      exact (h (o + 1 + r) (by omega) (by omega)).2 (by omega) j
    · rename_i hr
      have h3 : zlm nf nb r ≤ 3 := by
        unfold zlm
        rw [if_neg (by omega), if_neg hr]
        split <;> omega
      exact (h o (Nat.le_refl _) (by omega)).1 rfl j (by omega)
  · rfl
theorem zcvu12 : zcv nf nb (zu I o 12 v) o = zcv nf nb I o := zcv_cg fun x h1 h2 => ⟨fun e j hj => zu_off (by omega), fun e j => zu_off (by omega)⟩
theorem zcvo {x : Nat} (h : x < o ∨ o + 9 < x) : zcv nf nb (zu I x j v) o = zcv nf nb I o := zcv_cg fun y h1 h2 => ⟨fun e j hj => zu_off (by omega), fun e j => zu_off (by omega)⟩
theorem zcv_row {I' : zId} (h : ∀ x, o ≤ x → x ≤ o + 9 → I' x = I x) : zcv nf nb I' o = zcv nf nb I o := zcv_cg fun x h1 h2 => ⟨fun e j hj => by rw [h x h1 h2], fun e j => by rw [h x h1 h2]⟩
/-! the model's -/
theorem zmv20 (h : j < nf) : zmv2 nf nb I 0 j = I 1875 j := if_pos h
theorem zmv21 (h : j < nf) : zmv2 nf nb I 1 j = I 1876 j := if_pos h
theorem zmv22 (h : j < nf) : zmv2 nf nb I 2 j = I 1877 j := if_pos h
theorem zmv23 (h : j < nb) : zmv2 nf nb I 3 j = I 1868 j := if_pos h
theorem zmv24 (h : j < nb) : zmv2 nf nb I 4 j = I 1878 j := if_pos h
theorem zmv25 (h : j < nb) : zmv2 nf nb I 5 j = I 1879 j := if_pos h
theorem zmv26 (h : j < nb) : zmv2 nf nb I 6 j = I 1880 j := if_pos h
theorem zmv27 (h : j < nb) : zmv2 nf nb I 7 j = I 1881 j := if_pos h
theorem zmv28 (h : j < nb) : zmv2 nf nb I 8 j = I 1882 j := if_pos h
theorem zmv290 : zmv2 nf nb I 9 0 = I 1860 34 := rfl
theorem zmv291 : zmv2 nf nb I 9 1 = I 1860 35 := rfl
theorem zmv292 : zmv2 nf nb I 9 2 = I 1860 36 := rfl
theorem zmrow_inj {r r' : Nat} (h1 : r < 9) (h2 : r' < 9) (e : zmrow r = zmrow r') : r = r' := by
  unfold zmrow at e
  repeat' split at e
  all_goals omega
theorem zmrow_ne {r : Nat} (h : r < 9) : zmrow r ≠ 1860 := by
  unfold zmrow
  repeat' split
  all_goals omega
theorem zmv2_zu (r : Nat) (hr : r < 9) (h : j < zlm nf nb r) : zmv2 nf nb (zu I (zmrow r) j v) = zu (zmv2 nf nb I) r j v := by
  funext r' j'
  unfold zmv2 zu
  by_cases h1 : r' = r ∧ j' = j
  · obtain ⟨rfl, rfl⟩ := h1
    simp [h, hr]
  · rw [if_neg h1]
    by_cases h2 : r' < 9
    · have : ¬ (zmrow r' = zmrow r ∧ j' = j) := fun q => h1 ⟨zmrow_inj h2 hr q.1, q.2⟩
      simp only [if_pos h2, if_neg this]
    · have : ¬ (1860 = zmrow r ∧ 34 + j' = j) := fun q => zmrow_ne hr q.1.symm
      simp only [if_neg h2, if_neg this]
theorem zmv2_zu9 (h : j < 3) : zmv2 nf nb (zu I 1860 (34 + j) v) = zu (zmv2 nf nb I) 9 j v := by
  funext r' j'
  unfold zmv2 zu
  by_cases h1 : r' = 9 ∧ j' = j
  · obtain ⟨rfl, rfl⟩ := h1
    simp [h, zlm]
  · rw [if_neg h1]
    by_cases h2 : r' < 9
    · have : ¬ (zmrow r' = 1860 ∧ j' = 34 + j) := fun q => zmrow_ne h2 q.1
      simp only [if_pos h2, if_neg this]
    · by_cases h3 : r' = 9
      · have : ¬ (34 + j' = 34 + j) := fun q => h1 ⟨h3, by omega⟩
        simp only [if_neg h2, true_and, if_neg this]
      · have : ¬ j' < zlm nf nb r' := by
          unfold zlm
          rw [if_neg (by omega), if_neg h2, if_neg h3]
          omega
        simp only [if_neg this]
theorem zmvu0 (h : j < nf) : zmv2 nf nb (zu I 1875 j v) = zu (zmv2 nf nb I) 0 j v := zmv2_zu 0 (by decide) h
theorem zmvu1 (h : j < nf) : zmv2 nf nb (zu I 1876 j v) = zu (zmv2 nf nb I) 1 j v := zmv2_zu 1 (by decide) h
theorem zmvu2 (h : j < nf) : zmv2 nf nb (zu I 1877 j v) = zu (zmv2 nf nb I) 2 j v := zmv2_zu 2 (by decide) h
theorem zmvu3 (h : j < nb) : zmv2 nf nb (zu I 1868 j v) = zu (zmv2 nf nb I) 3 j v := zmv2_zu 3 (by decide) h
theorem zmvu4 (h : j < nb) : zmv2 nf nb (zu I 1878 j v) = zu (zmv2 nf nb I) 4 j v := zmv2_zu 4 (by decide) h
theorem zmvu5 (h : j < nb) : zmv2 nf nb (zu I 1879 j v) = zu (zmv2 nf nb I) 5 j v := zmv2_zu 5 (by decide) h
theorem zmvu6 (h : j < nb) : zmv2 nf nb (zu I 1880 j v) = zu (zmv2 nf nb I) 6 j v := zmv2_zu 6 (by decide) h
theorem zmvu7 (h : j < nb) : zmv2 nf nb (zu I 1881 j v) = zu (zmv2 nf nb I) 7 j v := zmv2_zu 7 (by decide) h
theorem zmvu8 (h : j < nb) : zmv2 nf nb (zu I 1882 j v) = zu (zmv2 nf nb I) 8 j v := zmv2_zu 8 (by decide) h
theorem zmvu90 : zmv2 nf nb (zu I 1860 34 v) = zu (zmv2 nf nb I) 9 0 v := zmv2_zu9 (j := 0) (by decide)
theorem zmvu91 : zmv2 nf nb (zu I 1860 35 v) = zu (zmv2 nf nb I) 9 1 v := zmv2_zu9 (j := 1) (by decide)
theorem zmvu92 : zmv2 nf nb (zu I 1860 36 v) = zu (zmv2 nf nb I) 9 2 v := zmv2_zu9 (j := 2) (by decide)
/-- a store in which the model's state is as in another -/
def zmok (x k : Nat) : Bool := (1875 ≤ x && x ≤ 1882) || x == 1868 || (x == 1860 && (34 ≤ k && k < 37))
theorem zmv2_cg {I' : zId} (h : ∀ x k, zmok x k = true → I' x k = I x k) : zmv2 nf nb I' = zmv2 nf nb I := by
  funext r j
  unfold zmv2
  split
  · rename_i hj
    split
    · rename_i hr
      refine h _ _ ?_
      unfold zmok zmrow
      repeat' split
      all_goals simp <;> omega
    · rename_i hr
      have h3 : zlm nf nb r ≤ 3 := by
        unfold zlm
        rw [if_neg (by omega), if_neg hr]
        split <;> omega
      refine h _ _ ?_
      unfold zmok
      simp; omega
  · rfl
theorem zmvo {x k : Nat} (h : zmok x k = false) : zmv2 nf nb (zu I x k v) = zmv2 nf nb I := zmv2_cg fun y j h1 => zu_off fun q => by obtain ⟨rfl, rfl⟩ := q; rw [h] at h1; cases h1
end L01
