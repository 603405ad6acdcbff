/-! L33: rounds: sets, the least days -/
def zls (s f : Nat) : Nat := s &&& (255 ^^^ 2 ^ f)
def zsb (s c : Nat) : Bool := decide (s &&& c = s)
def zmf3 (p : Nat → Bool) (v : Nat → Int32) : Nat → Int32 → Int32
  | 0, x => x
  | n + 1, x => if p n = true then zmin (zmf3 p v n x) (v n) else zmf3 p v n x
/-- the least days from home over all of s, f the last one -/
def zvz (nf : Nat) (D : Nat → Nat → Int32) (h : Nat) : Nat → Nat → Nat → Int32
  | 0, _, _ => 100000
  | n + 1, s, f => if s.testBit f = true then (if zls s f = 0 then D h f else zmf3 (fun q => (zls s f).testBit q) (fun q => zvz nf D h n (zls s f) q + D q f) nf 100000) else 100000
def zv (nf : Nat) (D : Nat → Nat → Int32) (h s f : Nat) : Int32 := zvz nf D h (s + 1) s f
theorem nI_bv (a : Nat) : (nI a).toBitVec = BitVec.ofNat 32 a := rfl
theorem nI_land (a b : Nat) : nI a &&& nI b = nI (a &&& b) := Int32.toBitVec_inj.mp (by
  rw [Int32.toBitVec_and, nI_bv, nI_bv, nI_bv]
  apply BitVec.eq_of_getLsbD_eq
  intro i hi
  simp [BitVec.getLsbD_ofNat, hi])
theorem nI_lor (a b : Nat) : nI a ||| nI b = nI (a ||| b) := Int32.toBitVec_inj.mp (by
  rw [Int32.toBitVec_or, nI_bv, nI_bv, nI_bv]
  apply BitVec.eq_of_getLsbD_eq
  intro i hi
  simp [BitVec.getLsbD_ofNat, hi])
theorem nI_not {a c : Nat} (ha : a < 256) : nI a &&& (nI c ^^^ (-1)) = nI (a &&& (255 ^^^ c)) := Int32.toBitVec_inj.mp (by
  rw [Int32.toBitVec_and, Int32.toBitVec_xor, nI_bv, nI_bv, nI_bv]
  apply BitVec.eq_of_getLsbD_eq
  intro i hi
  have h1 : (-1 : Int32).toBitVec = BitVec.allOnes 32 := by decide
  rw [h1]
  simp only [BitVec.getLsbD_and, BitVec.getLsbD_xor, BitVec.getLsbD_ofNat, BitVec.getLsbD_allOnes, hi, decide_true, Bool.true_and, Nat.testBit_and, Nat.testBit_xor]
  by_cases c8 : i < 8
  · have : Nat.testBit 255 i = true := by
      have e : (255 : Nat) = 2 ^ 8 - 1 := rfl
      rw [e, Nat.testBit_two_pow_sub_one]
      exact decide_eq_true c8
    rw [this]
    cases a.testBit i <;> cases c.testBit i <;> rfl
  · have : a.testBit i = false := Nat.testBit_lt_two_pow (Nat.lt_of_lt_of_le ha (Nat.le_trans (by decide : 256 ≤ 2 ^ 8) (Nat.pow_le_pow_right (by decide) (by omega))))
    rw [this]
    rfl)
theorem nI_sh1 : ∀ f, f < 8 → (1 : Int32) <<< (nI f &&& (31 : Int32)) = nI (2 ^ f) := by decide +kernel
theorem nI_bit : ∀ f, f < 8 → ∀ s, s < 256 → (nI s >>> (nI f &&& (31 : Int32))) &&& (1 : Int32) = if s.testBit f = true then 1 else 0 := by decide +kernel
theorem b255 (i : Nat) : Nat.testBit 255 i = decide (i < 8) := by
  have e : (255 : Nat) = 2 ^ 8 - 1 := rfl
  rw [e, Nat.testBit_two_pow_sub_one]
theorem zls_bit {s f j : Nat} (hs : s < 256) (hf : f < 8) : (zls s f).testBit j = (s.testBit j && decide (j ≠ f)) := by
  unfold zls
  rw [Nat.testBit_and, Nat.testBit_xor, b255, Nat.testBit_two_pow]
  by_cases c : j < 8
  · by_cases e : j = f
    · subst e; simp [c]
    · have : ¬ f = j := fun h => e h.symm
      simp [c, e, this]
  · have : s.testBit j = false := Nat.testBit_lt_two_pow (Nat.lt_of_lt_of_le hs (Nat.le_trans (by decide : 256 ≤ 2 ^ 8) (Nat.pow_le_pow_right (by decide) (by omega))))
    rw [this]; rfl
theorem zls_le {s f : Nat} : zls s f ≤ s := Nat.and_le_left
theorem zls_lt {s f : Nat} (hs : s < 256) (hf : f < 8) (h : s.testBit f = true) : zls s f < s := by
  refine Nat.lt_of_le_of_ne zls_le fun e => ?_
  have h1 := zls_bit (j := f) hs hf
  rw [e, h] at h1
  simp at h1
theorem zor_lt {s f : Nat} (hs : s < 256) (hf : f < 8) : s ||| 2 ^ f < 256 := Nat.or_lt_two_pow (n := 8) hs (Nat.pow_lt_pow_right (by decide) hf)
theorem zls_or {s f : Nat} (hs : s < 256) (hf : f < 8) (h : s.testBit f = false) : zls (s ||| 2 ^ f) f = s := by
  apply Nat.eq_of_testBit_eq
  intro j
  rw [zls_bit (zor_lt hs hf) hf, Nat.testBit_or, Nat.testBit_two_pow]
  by_cases e : j = f
  · subst e; simp [h]
  · have : ¬ f = j := fun h => e h.symm
    simp [e, this]
theorem zor_bit {s f : Nat} : (s ||| 2 ^ f).testBit f = true := by rw [Nat.testBit_or, Nat.testBit_two_pow]; simp
theorem zor_gt {s f : Nat} (hs : s < 256) (hf : f < 8) (h : s.testBit f = false) : s < s ||| 2 ^ f := by
  have := zls_lt (zor_lt hs hf) hf (zor_bit (s := s))
  rwa [zls_or hs hf h] at this
theorem zls_inv {s f : Nat} (hs : s < 256) (hf : f < 8) (h : s.testBit f = true) : zls s f ||| 2 ^ f = s := by
  apply Nat.eq_of_testBit_eq
  intro j
  rw [Nat.testBit_or, zls_bit hs hf, Nat.testBit_two_pow]
  by_cases e : j = f
  · subst e; simp [h]
  · have : ¬ f = j := fun h => e h.symm
    simp [e, this]
theorem zsb_i {s c : Nat} : zsb s c = true ↔ ∀ j, s.testBit j = true → c.testBit j = true := by
  unfold zsb
  rw [decide_eq_true_iff]
  constructor
  · intro h j hj
    rw [← h, Nat.testBit_and, Bool.and_eq_true] at hj
    exact hj.2
  · intro h
    apply Nat.eq_of_testBit_eq
    intro j
    rw [Nat.testBit_and]
    cases hs : s.testBit j with
    | false => rfl
    | true => rw [h j hs]; rfl
theorem zsb_le {s c : Nat} (h : zsb s c = true) : s ≤ c := by
  have e := of_decide_eq_true h
  rw [← e]
  exact Nat.and_le_right
theorem zsb_ls {s c f : Nat} (hs : s < 256) (hf : f < 8) (h : zsb s c = true) : zsb (zls s f) c = true := zsb_i.mpr fun j hj => by
  rw [zls_bit hs hf, Bool.and_eq_true] at hj
  exact zsb_i.mp h j hj.1
theorem zsb_or {s c f : Nat} (h : zsb s c = true) (hf : c.testBit f = true) : zsb (s ||| 2 ^ f) c = true := zsb_i.mpr fun j hj => by
  rw [Nat.testBit_or, Nat.testBit_two_pow, Bool.or_eq_true] at hj
  rcases hj with hj | hj
  · exact zsb_i.mp h j hj
  · rw [← of_decide_eq_true hj]; exact hf
theorem zsb_0 {s c : Nat} (hs : s < 256) : (nI s &&& (nI c ^^^ (-1)) = 0) ↔ zsb s c = true := by
  rw [nI_not hs, show (0 : Int32) = nI 0 from rfl, nI_eq (by have : s &&& (255 ^^^ c) ≤ s := Nat.and_le_left; omega) (by decide), zsb_i]
  constructor
  · intro h j hj
    have h2 : (s &&& (255 ^^^ c)).testBit j = false := by rw [h]; exact Nat.zero_testBit j
    rw [Nat.testBit_and, Nat.testBit_xor, b255, hj] at h2
    have h8 : j < 8 := Nat.not_le.mp fun q => by
      have : s.testBit j = false := Nat.testBit_lt_two_pow (Nat.lt_of_lt_of_le hs (Nat.le_trans (by decide : 256 ≤ 2 ^ 8) (Nat.pow_le_pow_right (by decide) q)))
      rw [this] at hj; cases hj
    rw [decide_eq_true h8] at h2
    simpa using h2
  · intro h
    apply Nat.eq_of_testBit_eq
    intro j
    rw [Nat.zero_testBit, Nat.testBit_and, Nat.testBit_xor, b255]
    cases hs2 : s.testBit j with
    | false => rfl
    | true =>
      rw [h j hs2]
      by_cases h8 : j < 8
      · rw [decide_eq_true h8]; rfl
      · have : s.testBit j = false := Nat.testBit_lt_two_pow (Nat.lt_of_lt_of_le hs (Nat.le_trans (by decide : 256 ≤ 2 ^ 8) (Nat.pow_le_pow_right (by decide) (by omega))))
        rw [this] at hs2; cases hs2
theorem zmf3_cg {p q : Nat → Bool} {v u : Nat → Int32} {x : Int32} : ∀ n, (∀ k, k < n → p k = q k ∧ (p k = true → v k = u k)) → zmf3 p v n x = zmf3 q u n x
  | 0, _ => rfl
  | n + 1, h => by
    obtain ⟨h1, h2⟩ := h n (by omega)
    rw [zmf3, zmf3, zmf3_cg n fun k hk => h k (by omega), ← h1]
    by_cases c : p n = true
    · rw [if_pos c, if_pos c, h2 c]
    · rw [if_neg c, if_neg c]
theorem zvz_n {nf : Nat} {D : Nat → Nat → Int32} {h : Nat} (hn : nf ≤ 8) : ∀ n m s f, s < 256 → f < 8 → s < n → s < m → zvz nf D h n s f = zvz nf D h m s f := by
  intro n
  induction n with
  | zero => intro m s f _ _ h1; omega
  | succ n ih =>
    intro m s f hs hf h1 h2
    obtain ⟨m, rfl⟩ : ∃ k, m = k + 1 := ⟨m - 1, by omega⟩
    rw [zvz, zvz]
    by_cases c : s.testBit f = true
    · rw [if_pos c, if_pos c]
      have hlt := zls_lt hs hf c
      by_cases c2 : zls s f = 0
      · rw [if_pos c2, if_pos c2]
      · rw [if_neg c2, if_neg c2]
        exact zmf3_cg nf fun k hk => ⟨rfl, fun _ => by rw [ih m (zls s f) k (by omega) (by omega) (by omega) (by omega)]⟩
    · rw [if_neg c, if_neg c]
/-- the law of the least days -/
theorem zv_e {nf : Nat} {D : Nat → Nat → Int32} {h s f : Nat} (hn : nf ≤ 8) (hs : s < 256) (hf : f < 8) : zv nf D h s f = if s.testBit f = true then (if zls s f = 0 then D h f else zmf3 (fun q => (zls s f).testBit q) (fun q => zv nf D h (zls s f) q + D q f) nf 100000) else 100000 := by
  unfold zv
  rw [zvz]
  by_cases c : s.testBit f = true
  · rw [if_pos c, if_pos c]
    have hlt := zls_lt hs hf c
    by_cases c2 : zls s f = 0
    · rw [if_pos c2, if_pos c2]
    · rw [if_neg c2, if_neg c2]
      exact zmf3_cg nf fun k hk => ⟨rfl, fun _ => by rw [zvz_n hn s (zls s f + 1) (zls s f) k (by omega) (by omega) (by omega) (by omega)]⟩
  · rw [if_neg c, if_neg c]
theorem zmf3_rg {p : Nat → Bool} {v : Nat → Int32} {x : Int32} (hx : rg x 0 100000) : ∀ n, (∀ k, k < n → p k = true → 0 ≤ (v k).toInt) → rg (zmf3 p v n x) 0 100000
  | 0, _ => hx
  | n + 1, h => by
    have ih := zmf3_rg hx n fun k hk => h k (by omega)
    rw [zmf3]
    split
    · rename_i c
      have := h n (by omega) c
      unfold rg at *
      rw [i_min]; omega
    · exact ih
theorem zv_rg {nf : Nat} {D : Nat → Nat → Int32} {h : Nat} (hn : nf ≤ 8) (hD : ∀ i j, i < nf → j < nf → rg (D i j) 0 100000) (hh : h < nf) : ∀ s, s < 256 → ∀ f, f < nf → rg (zv nf D h s f) 0 100000 := by
  intro s
  induction s using Nat.strongRecOn with
  | ind s ih =>
    intro hs f hf
    rw [zv_e hn hs (by omega)]
    have hF : rg (100000 : Int32) 0 100000 := ⟨by decide, by decide⟩
    split
    · rename_i c
      have hlt := zls_lt hs (show f < 8 by omega) c
      split
      · exact hD h f hh hf
      · refine zmf3_rg hF nf fun k hk _ => ?_
        have h1 := ih _ hlt (by omega) k hk
        have h2 := hD k f hk hf
        unfold rg at h1 h2
        rw [i_add (by omega) (by omega)]
        omega
    · exact hF
/-- all round, from h -/
def zrd (nf : Nat) (D : Nat → Nat → Int32) (h c : Nat) : Int32 := if c = 0 then 0 else zmf3 (fun _ => true) (fun f => zv nf D h c f + D f h) nf 100000
/-- where bands are -/
def zcmp (S : zS) : Nat → Nat
  | 0 => 0
  | n + 1 => zcmp S n ||| 2 ^ sp_f S n
noncomputable def q_round (P : zP) (X : zXd) (S : zS) (x : Int32) : Int32 ⊕ Nat := q_fa (xnt X) x fun k => .inl (zorn (zrd (pnf P) (xds X) (xft X k) (zcmp S (pnb P))))
theorem zcmp_ok {P : zP} {S : zS} (hp : pInv P) (hi : sInv P S) : ∀ n, n ≤ pnb P → zcmp S n < 256 ∧ ∀ j, (zcmp S n).testBit j = true → j < pnf P := by
  have hnf := hp.1
  intro n
  induction n with
  | zero => intro _; exact ⟨(show 0 < 256 by decide), fun j hj => by rw [zcmp, Nat.zero_testBit] at hj; cases hj⟩
  | succ n ih =>
    intro hn
    obtain ⟨h1, h2⟩ := ih (by omega)
    have hf := (hi.at' hp (show n < pnb P by omega)).2
    refine ⟨zor_lt h1 (by omega), fun j hj => ?_⟩
    rw [zcmp, Nat.testBit_or, Nat.testBit_two_pow, Bool.or_eq_true] at hj
    rcases hj with hj | hj
    · exact h2 j hj
    · rw [← of_decide_eq_true hj]; exact hf
