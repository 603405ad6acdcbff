/-! L02: what a year does -/
def zcn (p : Nat → Bool) : Nat → Int32
  | 0 => 0
  | n + 1 => if p n = true then zcn p n + 1 else zcn p n
def sp_oth (nb : Nat) (S : zS) (b : Nat) : Int32 := zcn (fun k => decide (k ≠ b) && decide (S 4 k = S 4 b)) nb
def sp_as (P : zP) (S : zS) (b f : Nat) : Nat → Int32 := fun k => match k with
  | 0 => S 3 b
  | 1 => S 0 f
  | 2 => S 7 b
  | 3 => ptax P * S 5 b
  | 4 => S 9 0
  | 5 => S 6 b
  | _ => sp_oth (pnb P) S b
def sp_want (P : zP) (S : zS) (b f : Nat) : Int32 := match phv P with
  | none => (3 : Int32) * S 3 b
  | some h => h (sp_as P S b f)
def sp_tkf (P : zP) (S : zS) (b f : Nat) : Int32 := if S 2 f ≤ 0 then zmax 0 (zmin (S 0 f) (sp_want P S b f)) else 0
def sp_f (S : zS) (b : Nat) : Nat := (S 4 b).toNatClampNeg
/-- what a band takes now -/
def sp_tk (P : zP) (S : zS) (b : Nat) : Int32 := sp_tkf P S b (sp_f S b)
def sp_huf (P : zP) (S : zS) (b f : Nat) (m : Int32) : zS := if m = 0 then S else zu (zu (zu S 0 f (S 0 f - m)) 1 f (S 1 f - S 1 f * m / S 0 f)) 6 b (zmin 9999 (S 6 b + m))
def sp_hu (P : zP) (S : zS) (b : Nat) : zS := sp_huf P S b (sp_f S b) (sp_tk P S b)
def sp_hlf (S : zS) (f : Nat) (m lb at' : Int32) : Int32 := if m = 0 then lb else if S 1 f * m / S 0 f ≤ 0 then lb else at'
def sp_hl (P : zP) (S : zS) (b : Nat) (lb : Int32) : Int32 := sp_hlf S (sp_f S b) (sp_tk P S b) lb (S 4 b)
def sp_due (P : zP) (S : zS) (b : Nat) : Int32 := ptax P * S 5 b + S 7 b
def sp_py (P : zP) (S : zS) (b : Nat) : Int32 := zmin (S 6 b) (sp_due P S b)
def sp_ow (P : zP) (S : zS) (b : Nat) : Int32 := zmin 9999 (sp_due P S b - sp_py P S b)
def sp_hf (P : zP) (S : zS) (b : Nat) : Int32 := (sp_ow P S b - plim P) / 2
def sp_pa (P : zP) (S : zS) (b : Nat) : zS :=
  if plim P < sp_ow P S b then zu (zu (zu (zu (zu (zu S 6 b (S 6 b - sp_py P S b)) 9 1 (S 9 1 + sp_py P S b)) 7 b (sp_ow P S b)) 9 2 (S 9 2 + sp_hf P S b * pfox P)) 7 b (sp_ow P S b - sp_hf P S b)) 8 b (S 8 b + 1)
  else zu (zu (zu S 6 b (S 6 b - sp_py P S b)) 9 1 (S 9 1 + sp_py P S b)) 7 b (sp_ow P S b)
def sp_grn (P : zP) (f : Nat) (m : Int32) : Int32 := zmax m (zmin (prm P f) (m + m * pgr P f / 100))
def sp_gr (P : zP) (S : zS) (f : Nat) : zS := zu (zu (zu S 0 f (sp_grn P f (S 0 f))) 1 f (zmin (sp_grn P f (S 0 f)) (S 1 f + S 1 f * pgr P f / 100))) 2 f (if S 2 f ≤ 0 then S 2 f else S 2 f - 1)
def sp_bs (P : zP) (S : zS) (lb : Int32) : Nat → zS × Int32
  | 0 => (S, lb)
  | n + 1 => (sp_pa P (sp_hu P (sp_bs P S lb n).1 n) n, sp_hl P (sp_bs P S lb n).1 n (sp_bs P S lb n).2)
def sp_fs (P : zP) (S : zS) : Nat → zS
  | 0 => S
  | n + 1 => sp_gr P (sp_fs P S n) n
/-- a year; where the last black one was taken -/
def sp_ye (P : zP) (S : zS) : zS := zu (sp_fs P (sp_bs P S (-1) (pnb P)).1 (pnf P)) 9 0 ((sp_fs P (sp_bs P S (-1) (pnb P)).1 (pnf P)) 9 0 + 1)
def sp_lb (P : zP) (S : zS) : Int32 := (sp_bs P S (-1) (pnb P)).2
/-- a range -/
def rg (x : Int32) (lo hi : Int) : Prop := lo ≤ x.toInt ∧ x.toInt ≤ hi
/-- what is so of all states -/
def sInv (P : zP) (S : zS) : Prop :=
  (∀ b, b < pnb P → (∃ f, f < pnf P ∧ S 4 b = nI f) ∧ rg (S 3 b) 0 30 ∧ rg (S 5 b) 0 30 ∧ rg (S 6 b) 0 9999 ∧ rg (S 7 b) 0 9999) ∧
  (∀ f, f < pnf P → rg (S 0 f) 0 999 ∧ rg (S 1 f) 0 (S 0 f).toInt ∧ rg (S 2 f) 0 50)
def pInv (P : zP) : Prop := pnf P ≤ 8 ∧ pnb P ≤ 6 ∧ rg (ptax P) 0 9 ∧ rg (pfox P) 0 9 ∧ rg (plim P) 0 99 ∧ (∀ f, f < pnf P → rg (prm P f) 0 999 ∧ rg (pgr P f) 0 99) ∧ ∀ h, phv P = some h → ∀ u w, (∀ k, k < 7 → u k = w k) → h u = h w
/-! Int32 by its integers -/
theorem iL {x y : Int32} : x < y ↔ x.toInt < y.toInt := Int32.lt_iff_toInt_lt
theorem iLe {x y : Int32} : x ≤ y ↔ x.toInt ≤ y.toInt := Int32.le_iff_toInt_le
theorem i_add {x y : Int32} (h1 : -2147483648 ≤ x.toInt + y.toInt) (h2 : x.toInt + y.toInt < 2147483648) : (x + y).toInt = x.toInt + y.toInt := by
  rw [Int32.toInt_add]; exact Int.bmod_eq_of_le_mul_two (by omega) (by omega)
theorem i_sub {x y : Int32} (h1 : -2147483648 ≤ x.toInt - y.toInt) (h2 : x.toInt - y.toInt < 2147483648) : (x - y).toInt = x.toInt - y.toInt := by
  rw [Int32.toInt_sub]; exact Int.bmod_eq_of_le_mul_two (by omega) (by omega)
theorem i_mul {x y : Int32} (h1 : -2147483648 ≤ x.toInt * y.toInt) (h2 : x.toInt * y.toInt < 2147483648) : (x * y).toInt = x.toInt * y.toInt := by
  rw [Int32.toInt_mul]; exact Int.bmod_eq_of_le_mul_two (by omega) (by omega)
theorem i_min (x y : Int32) : (zmin x y).toInt = min x.toInt y.toInt := by
  unfold zmin
  split
  · rename_i h; have := iL.mp h; omega
  · rename_i h; have := mt iL.mpr h; omega
theorem i_max (x y : Int32) : (zmax x y).toInt = max x.toInt y.toInt := by
  unfold zmax
  split
  · rename_i h; have := iL.mp h; omega
  · rename_i h; have := mt iL.mpr h; omega
theorem i_div {x y : Int32} (hx : 0 ≤ x.toInt) (hy : 0 < y.toInt) : (x / y).toInt = x.toInt / y.toInt := by
  rw [Int32.toInt_div_of_ne_right _ _ (by intro e; rw [e] at hy; exact absurd hy (by decide))]
  exact Int.tdiv_eq_ediv_of_nonneg hx
theorem i_ext {x y : Int32} (h : x.toInt = y.toInt) : x = y := Int32.toInt_inj.mp h
theorem i_rng (x : Int32) : -2147483648 ≤ x.toInt ∧ x.toInt < 2147483648 := ⟨Int32.le_toInt x, Int32.toInt_lt x⟩
theorem zmin_comm (x y : Int32) : zmin x y = zmin y x := i_ext (by rw [i_min, i_min]; omega)
