/-! L14: what a query of the component sees -/
/-- forts, their forests; rivers; rivers' days; ways' days -/
abbrev zXd : Type := (Nat × (Nat → Nat)) × Int32 × (Nat → Nat → Int32) × (Nat → Nat → Int32)
abbrev xnt (X : zXd) : Nat := X.1.1
abbrev xft (X : zXd) : Nat → Nat := X.1.2
abbrev xnr (X : zXd) : Int32 := X.2.1
abbrev xrv (X : zXd) : Nat → Nat → Int32 := X.2.2.1
abbrev xds (X : zXd) : Nat → Nat → Int32 := X.2.2.2
def xInv (P : zP) (X : zXd) : Prop := xnt X ≤ 3 ∧ ∀ k, k < xnt X → xft X k < pnf P
/-- the land's forts, rivers, ways -/
def zLQ (K : zKd) (F : zFd) (I : zId) (a : Nat) (P : zP) (X : zXd) : Prop :=
  I a 3 = xnr X ∧ (∃ E : Nat, F a 6 = some (a + 5) ∧ zAL K F I (a + 5) E (xnt X) ∧ ∀ k, k < xnt X → F E k = some (328 + xft X k)) ∧ (∀ i, i < 8 → K (328 + i) = some (17, 0) ∧ I (328 + i) 0 = nI i) ∧
  (F a 7 = some (a + 7) ∧ K (a + 7) = some (64, 64) ∧ F a 8 = some (a + 8) ∧ K (a + 8) = some (64, 64)) ∧ ∀ i j, i < pnf P → j < pnf P → I (a + 7) (8 * i + j) = xrv X i j ∧ I (a + 8) (8 * i + j) = xds X i j
/-- the component, as queries use it -/
def zCQ (K : zKd) (F : zFd) (I : zId) (a N : Nat) (P : zP) (X : zXd) : Prop :=
  K 1000 = some (0, 0) ∧ (F 1000 0 = some a ∧ F 1000 1 = some 1013 ∧ F 1000 2 = some 1430 ∧ F 1000 3 = some 1014 ∧ F 1000 4 = some 1847 ∧ F 1000 6 = some 1857 ∧ F 1000 9 = some 1858 ∧ F 1000 10 = some 1859) ∧ (K 1857 = some (65, 700) ∧ K 1858 = some (64, 2048) ∧ K 1859 = some (64, 1080)) ∧ (zSL K F 1014 ∧ zSL K F 1847) ∧ zLL K F I a N P ∧ zLQ K F I a P X ∧ ((a = 1001 ∧ N = 1013) ∨ 1903 ≤ a)
/-- the cells that a query may write -/
def zcsc (a x k : Nat) : Bool := (1847 ≤ x && x ≤ 1856) || x == a + 11 || x == 1858 || x == 1859 || (x == 1000 && k == 11)
def zcf (a : Nat) (I I' : zId) : Prop := ∀ x k, zcsc a x k = false → I' x k = I x k
theorem zcf.rf {a : Nat} {I : zId} : zcf a I I := fun _ _ _ => rfl
theorem zcf.tr {a : Nat} {I J L : zId} (h1 : zcf a I J) (h2 : zcf a J L) : zcf a I L := fun x k h => (h2 x k h).trans (h1 x k h)
theorem zcf.zu {a : Nat} {I J : zId} {x k : Nat} {v : Int32} (h : zcf a I J) (hd : zcsc a x k = true) : zcf a I (zu J x k v) := fun y j hy => by
  rw [zu_off fun q => by obtain ⟨rfl, rfl⟩ := q; rw [hd] at hy; cases hy]
  exact h y j hy
theorem zcf.row {a : Nat} {I J : zId} (h : zcf a I J) {x : Nat} (hx : ∀ k, zcsc a x k = false) : J x = I x := funext fun k => h x k (hx k)
theorem zcsc_no {a x k : Nat} (h1 : x < 1847 ∨ 1859 < x) (h2 : x ≠ a + 11) (h3 : x ≠ 1000 ∨ k ≠ 11) : zcsc a x k = false := by
  simp only [zcsc, Bool.or_eq_false_iff, Bool.and_eq_false_iff, decide_eq_false_iff_not, beq_eq_false_iff_ne, ne_eq]
  omega
theorem zcsc_57 {a k : Nat} (h2 : 1857 ≠ a + 11) : zcsc a 1857 k = false := by
  simp only [zcsc, Bool.or_eq_false_iff, Bool.and_eq_false_iff, decide_eq_false_iff_not, beq_eq_false_iff_ne, ne_eq]
  omega
theorem zfr.cf {a : Nat} {I I' : zId} (h : zfr 1847 (a + 11) I I') : zcf a I I' := fun x k hx => by
  refine congrFun (h x ?_ ?_) k
  · simp only [zcsc, Bool.or_eq_false_iff, Bool.and_eq_false_iff, decide_eq_false_iff_not] at hx
    omega
  · intro e
    subst e
    simp [zcsc] at hx
theorem zLQ.cg {K : zKd} {F : zFd} {I I' : zId} {a : Nat} {P : zP} {X : zXd} (h : zLQ K F I a P X) (e : ∀ x, a ≤ x → x ≤ a + 8 → I' x = I x) (e2 : ∀ x, x < 600 → I' x = I x) : zLQ K F I' a P X := by
  obtain ⟨h1, ⟨E, h2, h3, h4⟩, h5, h6, h7⟩ := h
  refine ⟨by rw [e a (by omega) (by omega)]; exact h1, ⟨E, h2, h3.cg (e _ (by omega) (by omega)), h4⟩, fun i hi => ⟨(h5 i hi).1, by rw [e2 _ (by omega)]; exact (h5 i hi).2⟩, h6, fun i j hi hj => ?_⟩
  rw [e (a + 7) (by omega) (by omega), e (a + 8) (by omega) (by omega)]
  exact h7 i j hi hj
theorem zCQ.cg {K : zKd} {F : zFd} {I I' : zId} {a N : Nat} {P : zP} {X : zXd} (h : zCQ K F I a N P X) (e : ∀ x, a ≤ x → x < N → x ≠ a + 11 → I' x = I x) (e2 : ∀ x, x < 600 → I' x = I x) : zCQ K F I' a N P X :=
  ⟨h.1, h.2.1, h.2.2.1, h.2.2.2.1, h.2.2.2.2.1.cg e, h.2.2.2.2.2.1.cg (fun x h1 h2 => e x h1 (by have := h.2.2.2.2.1.2.1; omega) (by omega)) e2, h.2.2.2.2.2.2⟩
theorem zCQ.cf {K : zKd} {F : zFd} {I I' : zId} {a N : Nat} {P : zP} {X : zXd} (h : zCQ K F I a N P X) (e : zcf a I I') : zCQ K F I' a N P X := by
  have hd := h.2.2.2.2.2.2
  exact h.cg (fun x h1 h2 h3 => e.row fun k => zcsc_no (by omega) h3 (by omega)) (fun x hx => e.row fun k => zcsc_no (by omega) (by omega) (by omega))
/-- ranges of an int -/
def zir (x : Int32) (n : Nat) : Prop := ¬ x < 0 ∧ x < nI n
theorem zir_cases (x : Int32) {n : Nat} (hn : n < 2147483648) : (∃ f, f < n ∧ x = nI f) ∨ (x < 0 ∨ nI n ≤ x) := by
  by_cases h : x < 0
  · exact Or.inr (Or.inl h)
  · obtain ⟨j, h1, h2⟩ := nI_of h
    subst h2
    by_cases c : j < n
    · exact Or.inl ⟨j, c, rfl⟩
    · exact Or.inr (Or.inr (nI_le (by omega) h1))
section L14
variable {K : zKd} {F : zFd} {I : zId} {a N : Nat} {P : zP} {X : zXd}
theorem F_there_1 : F_X1_there K F 1 I = some (.inl (), I) := rfl
theorem F_there_0 : F_X1_there K F 0 I = some (.inr ("java/util/NoSuchElementException", 0), I) := rfl
theorem F_right_1 : F_X1_right K F 1 I = some (.inl (), I) := rfl
theorem F_right_0 : F_X1_right K F 0 I = some (.inr ("java/lang/IllegalArgumentException", 0), I) := rfl
theorem F_forests_ok (h : zCQ K F I a N P X) : F_X1_forests K F 1000 I = some (nI (pnf P)) := by
  obtain ⟨k0, ⟨f0, -⟩, -, -, hL, -, -⟩ := h
  obtain ⟨l1, l2, l3, -, -, -, ⟨E, fo, g1, g2, g3⟩, -⟩ := hL
  simp only [F_X1_forests, ↓zka_eq k0, ↓zka_eq l3, decide_eq_true (show 600 ≤ 1000 by decide), decide_eq_true l1, zg_true, f0, g1, zb1_e, ↓zka_eq g2.2.1, zAL_size g2]
theorem F_bands_ok (h : zCQ K F I a N P X) : F_X1_bands K F 1000 I = some (nI (pnb P)) := by
  obtain ⟨k0, ⟨f0, -⟩, -, -, hL, -, -⟩ := h
  obtain ⟨l1, l2, l3, -, -, -, -, ⟨E, g1, g2⟩, -⟩ := hL
  simp only [F_X1_bands, ↓zka_eq k0, ↓zka_eq l3, decide_eq_true (show 600 ≤ 1000 by decide), decide_eq_true l1, zg_true, f0, g1, zb1_e, ↓zka_eq g2.2.1, zAL_size g2]
theorem F_forestAt_ok (h : zCQ K F I a N P X) (hp : pInv P) {f : Nat} (hf : f < pnf P) : ∃ o, F_X1_forestAt K F 1000 (nI f) I = some (.inl (some o), I) ∧ (a ≤ o ∧ o < N ∧ o ≠ a + 11) ∧ K o = some (9, 0) ∧ I o 2 = prm P f ∧ I o 3 = pgr P f := by
  have hfo := F_forests_ok h
  have hnf := hp.1
  obtain ⟨k0, ⟨f0, -⟩, -, -, hL, -, -⟩ := h
  obtain ⟨l1, l2, l3, -, -, -, ⟨E, fo, g1, g2, g3⟩, -⟩ := hL
  obtain ⟨q1, q2, q3, q4, q5⟩ := g3 f hf
  refine ⟨fo f, ?_, q2, q3, q4, q5⟩
  simp only [F_X1_forestAt, ↓zka_eq k0, ↓zka_eq l3, decide_eq_true (show 600 ≤ 1000 by decide), decide_eq_true l1, zg_true, f0, g1, zb1_e, ↓zka_eq g2.2.1, hfo, if_neg (nI_pos (show f < 2 ^ 31 by omega)), if_neg (nI_ge hf (show pnf P < 2 ^ 31 by omega)), zlet_e, F_there_1, zb2_e, zsum, zAL_get g2 (by omega) hf q1, ↓zka_eq q3]
theorem F_forestAt_no (h : zCQ K F I a N P X) {x : Int32} (hx : x < 0 ∨ nI (pnf P) ≤ x) : F_X1_forestAt K F 1000 x I = some (.inr ("java/util/NoSuchElementException", 0), I) := by
  have hfo := F_forests_ok h
  obtain ⟨k0, -⟩ := h
  by_cases c : x < 0
  · simp only [F_X1_forestAt, if_pos c, zlet_e, F_there_0, zb2_e, zsum]
  · have c2 : nI (pnf P) ≤ x := hx.resolve_left c
    simp only [F_X1_forestAt, ↓zka_eq k0, if_neg c, hfo, zb1_e, if_pos c2, zlet_e, F_there_0, zb2_e, zsum]
theorem F_bandAt_ok (h : zCQ K F I a N P X) (hp : pInv P) {b : Nat} (hb : b < pnb P) : F_X1_bandAt K F 1000 (nI b) I = some (.inl (), I) := by
  have hfo := F_bands_ok h
  have hnb := hp.2.1
  obtain ⟨k0, -⟩ := h
  simp only [F_X1_bandAt, ↓zka_eq k0, hfo, if_neg (nI_pos (show b < 2 ^ 31 by omega)), if_neg (nI_ge hb (show pnb P < 2 ^ 31 by omega)), F_there_1, zb1_e, zb2_e, zsum]
theorem F_bandAt_no (h : zCQ K F I a N P X) {x : Int32} (hx : x < 0 ∨ nI (pnb P) ≤ x) : F_X1_bandAt K F 1000 x I = some (.inr ("java/util/NoSuchElementException", 0), I) := by
  have hfo := F_bands_ok h
  obtain ⟨k0, -⟩ := h
  by_cases c : x < 0
  · simp only [F_X1_bandAt, if_pos c, F_there_0, zb2_e, zsum]
  · have c2 : nI (pnb P) ≤ x := hx.resolve_left c
    simp only [F_X1_bandAt, ↓zka_eq k0, if_neg c, hfo, zb1_e, if_pos c2, F_there_0, zb2_e, zsum]
theorem F_fortAt_ok (h : zCQ K F I a N P X) (hx : xInv P X) (hp : pInv P) {k : Nat} (hk : k < xnt X) : F_X1_fortAt K F 1000 (nI k) I = some (.inl (nI (xft X k)), I) := by
  have hnf := hp.1
  have hnt := hx.1
  have hfk := hx.2 k hk
  obtain ⟨k0, ⟨f0, -⟩, -, -, hL, hQ, -⟩ := h
  obtain ⟨l1, l2, l3, -⟩ := hL
  obtain ⟨-, ⟨E, g1, g2, g3⟩, hc, -, -⟩ := hQ
  obtain ⟨c1, c2⟩ := hc (xft X k) (by omega)
  simp only [F_X1_fortAt, F_J17_intValue, ↓zka_eq k0, ↓zka_eq l3, decide_eq_true (show 600 ≤ 1000 by decide), decide_eq_true l1, zg_true, f0, g1, zb1_e, ↓zka_eq g2.2.1, zAL_size g2, if_neg (nI_pos (show k < 2 ^ 31 by omega)), if_neg (nI_ge hk (show xnt X < 2 ^ 31 by omega)), zlet_e, F_there_1, zb2_e, zsum, zAL_get g2 (by omega) hk (g3 k hk), ↓zka_eq c1, c2]
theorem F_fortAt_no (h : zCQ K F I a N P X) {x : Int32} (hx : x < 0 ∨ nI (xnt X) ≤ x) : F_X1_fortAt K F 1000 x I = some (.inr ("java/util/NoSuchElementException", 0), I) := by
  obtain ⟨k0, ⟨f0, -⟩, -, -, hL, hQ, -⟩ := h
  obtain ⟨l1, l2, l3, -⟩ := hL
  obtain ⟨-, ⟨E, g1, g2, g3⟩, hc, -, -⟩ := hQ
  by_cases c : x < 0
  · simp only [F_X1_fortAt, if_pos c, zlet_e, F_there_0, zb2_e, zsum]
  · have c2 : nI (xnt X) ≤ x := hx.resolve_left c
    simp only [F_X1_fortAt, ↓zka_eq k0, ↓zka_eq l3, decide_eq_true (show 600 ≤ 1000 by decide), decide_eq_true l1, zg_true, f0, g1, zb1_e, ↓zka_eq g2.2.1, zAL_size g2, if_neg c, if_pos c2, zlet_e, F_there_0, zb2_e, zsum]
/-- tried := now -/
theorem F_tl_ok (h : zCQ K F I a N P X) : F_X6_like K F 1847 1014 I = some (zlk I 1847 1014) ∧ zcf a I (zlk I 1847 1014) := by
  obtain ⟨-, -, -, ⟨h1, h2⟩, -⟩ := h
  refine ⟨F_like_ok h2 h1 (by omega), fun x k hx => ?_⟩
  refine congrFun (zlk_off ?_) k
  simp only [zcsc, Bool.or_eq_false_iff, Bool.and_eq_false_iff, decide_eq_false_iff_not] at hx
  omega
theorem zCQ.tr (h : zCQ K F I a N P X) : 1847 + 10 ≤ a ∨ N ≤ 1847 := by
  have := h.2.2.2.2.2.2
  omega
theorem F_goT_ok (h : zCQ K F I a N P X) (hp : pInv P) (hi : sInv P (zcv (pnf P) (pnb P) I 1847)) : ∃ I', F_X6_goes K F 1847 a I = some I' ∧ zcv (pnf P) (pnb P) I' 1847 = sp_ye P (zcv (pnf P) (pnb P) I 1847) ∧ I' 1847 12 = sp_lb P (zcv (pnf P) (pnb P) I 1847) ∧ zcf a I I' := by
  obtain ⟨J, h1, h2, h3, h4⟩ := F_goes_ok h.2.2.2.1.2 h.2.2.2.2.1 hp h.tr hi
  exact ⟨J, h1, h2, h3, h4.cf⟩
theorem F_goesBy_ok (h : zCQ K F I a N P X) (hp : pInv P) (hi : sInv P (zcv (pnf P) (pnb P) I 1847)) {n : Nat} (hn : n < 2147483648) : ∃ J, F_X1_goesBy K F 1000 (nI n) I = some J ∧ zcv (pnf P) (pnb P) J 1847 = sp_it P (zcv (pnf P) (pnb P) I 1847) n ∧ zcf a I J := by
  have s := zloop_up (body := fun s : Int32 × zId => F_X1_goesBy_L2 K F 1000 (nI n) s.1 s.2) (fun i s => s.1 = nI i ∧ zcv (pnf P) (pnb P) s.2 1847 = sp_it P (zcv (pnf P) (pnb P) I 1847) i ∧ zcf a I s.2) (fun t => zcv (pnf P) (pnb P) t 1847 = sp_it P (zcv (pnf P) (pnb P) I 1847) n ∧ zcf a I t) n ?_ ?_ 0 (0, I) (Nat.zero_le _) ⟨rfl, rfl, zcf.rf⟩
  · obtain ⟨J, h1, h2, h3⟩ := s
    exact ⟨J, by simp only [F_X1_goesBy, h1, zb1_e], h2, h3⟩
  · rintro i ⟨_, J⟩ hib ⟨rfl, e1, e3⟩
    dsimp only at e1 e3
    have hiJ : sInv P (zcv (pnf P) (pnb P) J 1847) := by rw [e1]; exact sInv_it hp hi i
    obtain ⟨J1, g1, g2, -, g4⟩ := F_goT_ok (h.cf e3) hp hiJ
    obtain ⟨k0, ⟨f0, _, _, _, f4, _⟩, -, ⟨-, hT⟩, -⟩ := h
    refine Or.inl ⟨(nI (i + 1), J1), ?_, rfl, ?_, e3.tr g4⟩
    · dsimp only
      simp only [F_X1_goesBy_L2, if_neg (nI_ge hib (show n < 2 ^ 31 by omega)), ↓zka_eq k0, decide_eq_true (show 600 ≤ 1000 by decide), zg_true, f0, f4, zb1_e, ↓zka_eq hT.2.1, g1, zlet_e, nI_1]
    · dsimp only
      rw [g2, e1, sp_it]
  · rintro ⟨_, J⟩ ⟨rfl, e1, e3⟩
    refine ⟨J, ?_, e1, e3⟩
    dsimp only
    simp only [F_X1_goesBy_L2, if_pos (nI_le (Nat.le_refl n) (show n < 2 ^ 31 by omega))]
end L14
