/-! L08: the model's years -/
def zdyn (x k : Nat) : Bool := (1875 ≤ x && x ≤ 1877) || (1880 ≤ x && x ≤ 1882) || x == 1884 || x == 1885 || (x == 1860 && ((34 ≤ k && k < 37) || k == 41))
def zmfr (I I' : zId) : Prop := ∀ x k, zdyn x k = false → I' x k = I x k
theorem zmfr.tr {I J L : zId} (h1 : zmfr I J) (h2 : zmfr J L) : zmfr I L := fun x k h => (h2 x k h).trans (h1 x k h)
theorem zmfr.rf {I : zId} : zmfr I I := fun _ _ _ => rfl
theorem zmfr.zu {I J : zId} {x k : Nat} {v : Int32} (h : zmfr I J) (hd : zdyn x k = true) : zmfr I (zu J x k v) := fun y j hy => by
  rw [zu_off fun q => by obtain ⟨rfl, rfl⟩ := q; rw [hd] at hy; cases hy]
  exact h y j hy
theorem zmfr.row {I J : zId} (h : zmfr I J) {x : Nat} (hx : ∀ k, zdyn x k = false) : J x = I x := funext fun k => h x k (hx k)
/-- what the model has of the land -/
def zML (I : zId) (P : zP) : Prop := I 1862 0 = nI (pnf P) ∧ I 1862 2 = nI (pnb P) ∧ I 1862 4 = ptax P ∧ I 1862 5 = pfox P ∧ I 1862 6 = plim P ∧ (∀ f, f < pnf P → I 1865 f = prm P f ∧ I 1866 f = pgr P f) ∧ (phv P = none → I 1862 7 ≤ 0) ∧ ∀ h, phv P = some h → ¬ I 1862 7 ≤ 0 ∧ ∀ I' : zId, I' 1862 = I 1862 → I' 1872 = I 1872 → ∃ J, F_X7_valueNow I' = some (h (I' 1884), J) ∧ ∀ x, x ≠ 1885 → J x = I' x
theorem zML.cg {I I' : zId} {P : zP} (h : zML I P) (e2 : I' 1862 = I 1862) (e5 : I' 1865 = I 1865) (e6 : I' 1866 = I 1866) (e7 : I' 1872 = I 1872) : zML I' P := by
  obtain ⟨h1, h2, h3, h4, h5, h6, h7, h8⟩ := h
  unfold zML
  rw [e2, e5, e6, e7]
  exact ⟨h1, h2, h3, h4, h5, h6, h7, h8⟩
theorem zML.fr {I I' : zId} {P : zP} (h : zML I P) (e : zmfr I I') : zML I' P := h.cg (e.row fun k => by simp [zdyn]) (e.row fun k => by simp [zdyn]) (e.row fun k => by simp [zdyn]) (e.row fun k => by simp [zdyn])
/-! sets of bands -/
def zbn (p : Nat → Bool) : Nat → Nat
  | 0 => 0
  | n + 1 => if p n = true then zbn p n + 2 ^ n else zbn p n
def zpc : Nat → Nat → Nat
  | 0, _ => 0
  | n + 1, v => v % 2 + zpc n (v / 2)
theorem zbn_lt (p : Nat → Bool) : ∀ n, zbn p n < 2 ^ n
  | 0 => Nat.zero_lt_one
  | n + 1 => by
    have := zbn_lt p n
    rw [zbn, Nat.pow_succ]
    split <;> omega
theorem zbits_or : ∀ n, n < 8 → ∀ v, v < 2 ^ n → nI v ||| ((1 : Int32) <<< (nI n &&& (31 : Int32))) = nI (v + 2 ^ n) := by decide +kernel
theorem zor_0 (x : Int32) : x ||| 0 = x := by simp
theorem zpc_s : ∀ n, n < 6 → ∀ v, v < 2 ^ n → zpc 6 (v + 2 ^ n) = zpc 6 v + 1 := by decide +kernel
theorem zpc_n {p : Nat → Bool} : ∀ n, n ≤ 6 → zcn p n = nI (zpc 6 (zbn p n))
  | 0, _ => by show (0 : Int32) = nI (zpc 6 0); decide +kernel
  | n + 1, h => by
    rw [zcn, zbn, zpc_n n (by omega)]
    split
    · rw [zpc_s n (by omega) _ (zbn_lt p n), nI_succ]
    · rfl
theorem zbo_run : ∀ v, v < 64 → zrun (fun s : Int32 × Int32 => F_X7_bitsOf_L4 s.1 s.2) 7 (0, nI v) = some (nI (zpc 6 v)) := by decide +kernel
theorem F_bitsOf_ok {v : Nat} (h : v < 64) (I : zId) : F_X7_bitsOf (nI v) I = some (nI (zpc 6 v)) := by
  simp only [F_X7_bitsOf, zloop_of (zbo_run v h), zb1_e]
theorem zcn_cg {p q : Nat → Bool} : ∀ n, (∀ k, k < n → p k = q k) → zcn p n = zcn q n
  | 0, _ => rfl
  | n + 1, h => by rw [zcn, zcn, h n (by omega), zcn_cg n fun k hk => h k (by omega)]
theorem zcn_ne {p : Nat → Bool} {b : Nat} : ∀ n, (b < n → p b = true) → zcn p n = if b < n then zcn (fun k => decide (k ≠ b) && p k) n + 1 else zcn (fun k => decide (k ≠ b) && p k) n
  | 0, _ => by rw [if_neg (by omega)]; rfl
  | n + 1, h => by
    have ih := zcn_ne (p := p) (b := b) n fun hb => h (by omega)
    rw [zcn, zcn]
    by_cases e : n = b
    · subst e
      rw [if_pos (h (by omega)), if_pos (by omega), ih, if_neg (by omega)]
      simp
    · rw [ih]
      by_cases c : b < n
      · rw [if_pos c, if_pos (show b < n + 1 by omega)]
        cases hp : p n <;> simp [hp, e]
      · rw [if_neg c, if_neg (show ¬ b < n + 1 by omega)]
        cases hp : p n <;> simp [hp, e]
theorem sp_oth_pc {nb : Nat} {S : zS} {b : Nat} (hb : b < nb) (hn : nb ≤ 6) : sp_oth nb S b = nI (zpc 6 (zbn (fun k => decide (S 4 k = S 4 b)) nb)) - 1 := by
  rw [← zpc_n nb hn]
  have := zcn_ne (p := fun k => decide (S 4 k = S 4 b)) (b := b) nb fun _ => by simp
  rw [if_pos hb] at this
  rw [this]
  show _ = sp_oth nb S b + 1 - 1
  simp
section L08
variable {I : zId} {P : zP}
theorem zbn_cg {p q : Nat → Bool} : ∀ n, (∀ k, k < n → p k = q k) → zbn p n = zbn q n
  | 0, _ => rfl
  | n + 1, h => by rw [zbn, zbn, h n (by omega), zbn_cg n fun k hk => h k (by omega)]
theorem F7_bandsIn_ok (hM : zML I P) (hp : pInv P) (x : Int32) : F_X7_bandsIn x I = some (nI (zbn (fun k => decide (zmv2 (pnf P) (pnb P) I 4 k = x)) (pnb P))) := by
  have hnb := hp.2.1
  have s := zloop_up (body := fun s : Int32 × Int32 => F_X7_bandsIn_L4 x I s.1 s.2) (fun i s => s = (nI (zbn (fun k => decide (zmv2 (pnf P) (pnb P) I 4 k = x)) i), nI i)) (fun t => t = nI (zbn (fun k => decide (zmv2 (pnf P) (pnb P) I 4 k = x)) (pnb P))) (pnb P) ?_ ?_ 0 (0, 0) (Nat.zero_le _) rfl
  · obtain ⟨t, h1, rfl⟩ := s
    simp only [F_X7_bandsIn, h1, zb1_e]
  · intro i s hi e
    subst e
    refine Or.inl ?_
    dsimp only
    simp only [F_X7_bandsIn_L4, hM.2.1, if_neg (nI_ge hi (show pnb P < 2 ^ 31 by omega)), zin_n (show i < 6 by omega), zg_true, zlet_e, nI_c (show i < 2147483648 by omega), nI_1, zbn, zmv24 hi]
    by_cases e2 : I 1878 i = x
    · refine ⟨_, if_neg (fun h => h e2), ?_⟩
      rw [zbits_or i (by omega) _ (zbn_lt _ i), if_pos (decide_eq_true e2)]
    · refine ⟨_, if_pos e2, ?_⟩
      rw [zor_0, decide_eq_false e2]
      rfl
  · intro s e
    subst e
    dsimp only
    simp only [F_X7_bandsIn_L4, hM.2.1, if_pos (nI_le (Nat.le_refl _) (show pnb P < 2 ^ 31 by omega))]
    exact ⟨_, rfl, rfl⟩
end L08
