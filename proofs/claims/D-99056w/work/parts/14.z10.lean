/-! Z10: methods that make objects: their store h, what they cost -/
def zfree (h : zSt) : Bool := (hK h (hN h)).isNone && decide (600 ≤ hN h)
theorem zfree_ok {h : zSt} (e : zfree h = true) : hK h (hN h) = none ∧ zNC ≤ hN h := by
  simp only [zfree, Bool.and_eq_true, decide_eq_true_eq, Option.isNone_iff_eq_none] at e
  exact e
def znA (h : zSt) (c n : Nat) : zSt := (hN h + 1, zu1 (hK h) (hN h) (some (c, n)), zu1 (jF h) (hN h) (fun _ => none), zu1 (hI h) (hN h) (fun _ => 0), zu1 (hL h) (hN h) (fun _ => 0))
def zarrn (i : Int32) : Bool := !(decide (i < 0)) && decide (i.toNatClampNeg ≤ 1000000)
theorem zarrn_ok {i : Int32} (h : zarrn i = true) : ¬ i < 0 ∧ i.toNatClampNeg ≤ 1000000 := by
  simpa [zarrn] using h
/-- a cost ahead of what comes -/
def zpay {a : Type} (k : Nat × Nat) (x : Option ((Nat × Nat) × a)) : Option ((Nat × Nat) × a) := match x with
  | some (c, r) => some ((c.1 + k.1, c.2 + k.2), r)
  | none => none
theorem zpay_some {a : Type} {k c : Nat × Nat} {x : Option ((Nat × Nat) × a)} {r : a} (h : zpay k x = some (c, r)) : ∃ c', x = some (c', r) ∧ (c'.1 + k.1, c'.2 + k.2) = c := by
  cases x with
  | none => cases h
  | some p =>
    obtain ⟨c', r'⟩ := p
    have h := Option.some.inj h
    obtain ⟨h1, h2⟩ := Prod.mk.inj h
    exact ⟨c', by rw [h2], h1⟩
theorem zpair {a b : Type} {x u : a} {y v : b} (h : some (x, y) = some (u, v)) : x = u ∧ y = v := Prod.mk.inj (Option.some.inj h)
def zrunC {s t : Type} (body : s → Option ((Nat × Nat) × (s ⊕ t))) : Nat → s → Option ((Nat × Nat) × t)
  | 0, _ => none
  | n + 1, x => match body x with
    | none => none
    | some (c, .inl x') => zpay c (zrunC body n x')
    | some (c, .inr y) => some (c, y)
noncomputable def zloopC {s t : Type} (body : s → Option ((Nat × Nat) × (s ⊕ t))) (x : s) : Option ((Nat × Nat) × t) :=
  @dite _ (∃ n r, zrunC body n x = some r) (Classical.propDecidable _) (fun h => zrunC body (Classical.choose h) x) (fun _ => none)
theorem zrunC_mono {s t : Type} {body : s → Option ((Nat × Nat) × (s ⊕ t))} : ∀ {n m : Nat} {x : s} {r : (Nat × Nat) × t}, n ≤ m → zrunC body n x = some r → zrunC body m x = some r := by
  intro n
  induction n with
  | zero => intro m x r _ h; cases h
  | succ n ih =>
    intro m x r hm h
    obtain ⟨m, rfl⟩ : ∃ k, m = k + 1 := ⟨m - 1, by omega⟩
    simp only [zrunC] at h ⊢
    split at h
    · cases h
    · rename_i c x' e
      obtain ⟨cr, rr⟩ := r
      obtain ⟨c', h1, h2⟩ := zpay_some h
      have h3 := ih (show n ≤ m by omega) h1
      rw [h3]
      show some ((c'.1 + c.1, c'.2 + c.2), rr) = _
      rw [h2]
    · exact h
theorem zloopC_of {s t : Type} {body : s → Option ((Nat × Nat) × (s ⊕ t))} {x : s} {r : (Nat × Nat) × t} {n : Nat} (h : zrunC body n x = some r) : zloopC body x = some r := by
  have hx : ∃ n r, zrunC body n x = some r := ⟨n, r, h⟩
  unfold zloopC
  rw [dif_pos hx]
  obtain ⟨r', h'⟩ := Classical.choose_spec hx
  rw [h']
  have h1 := zrunC_mono (Nat.le_max_left n (Classical.choose hx)) h
  have h2 := zrunC_mono (Nat.le_max_right n (Classical.choose hx)) h'
  exact h2.symm.trans h1
theorem zloopC_run {s t : Type} {body : s → Option ((Nat × Nat) × (s ⊕ t))} {x : s} {r : (Nat × Nat) × t} (h : zloopC body x = some r) : ∃ n, zrunC body n x = some r := by
  unfold zloopC at h
  split at h
  · exact ⟨_, h⟩
  · cases h
theorem zloopC_ind {s t : Type} {body : s → Option ((Nat × Nat) × (s ⊕ t))} {y : t} {P : s → Nat → Nat → Prop} (h : ∀ x c r E W0, body x = some (c, r) → (∀ x', r = .inl x' → P x' E W0) → (∀ y', r = .inr y' → y' = y ∧ E = 0 ∧ W0 = 0) → P x (c.1 + E) (c.2 + W0)) : ∀ {x : s} {c : Nat × Nat}, zloopC body x = some (c, y) → P x c.1 c.2 := by
  intro x c hl
  obtain ⟨n, hn⟩ := zloopC_run hl
  clear hl
  induction n generalizing x c with
  | zero => cases hn
  | succ n ih =>
    simp only [zrunC] at hn
    split at hn
    · cases hn
    · rename_i c0 x' e
      obtain ⟨c', h1, h2⟩ := zpay_some hn
      have h3 := h x c0 _ c'.1 c'.2 e (fun x2 e2 => by cases e2; exact ih h1) (fun y' e2 => by cases e2)
      rw [← h2, Nat.add_comm c'.1, Nat.add_comm c'.2]
      exact h3
    · rename_i c0 y' e
      obtain ⟨h1, h2⟩ := zpair hn
      subst h1
      have h3 := h x c0 _ 0 0 e (fun x2 e2 => by cases e2) (fun y2 e2 => by cases e2; exact ⟨h2, rfl, rfl⟩)
      exact h3
theorem zloopC_step {s t : Type} {body : s → Option ((Nat × Nat) × (s ⊕ t))} {x x' : s} {c : Nat × Nat} (h : body x = some (c, .inl x')) : zloopC body x = zpay c (zloopC body x') := by
  cases e : zloopC body x' with
  | some r =>
    obtain ⟨n, hn⟩ := zloopC_run e
    exact zloopC_of (n := n + 1) (by simp only [zrunC, h]; rw [hn]; rfl)
  | none =>
    cases e2 : zloopC body x with
    | none => rfl
    | some r =>
      obtain ⟨n, hn⟩ := zloopC_run e2
      cases n with
      | zero => cases hn
      | succ n =>
        simp only [zrunC, h] at hn
        obtain ⟨cr, rr⟩ := r
        obtain ⟨c', h1, -⟩ := zpay_some hn
        rw [zloopC_of h1] at e
        cases e
theorem zloopC_end {s t : Type} {body : s → Option ((Nat × Nat) × (s ⊕ t))} {x : s} {c : Nat × Nat} {y : t} (h : body x = some (c, .inr y)) : zloopC body x = some (c, y) := zloopC_of (n := 1) (by simp only [zrunC, h])
/-- a loop's result with its cost; one that may leave the method -/
def zc1 {a g : Type} (x : Option ((Nat × Nat) × a)) (f : Nat × Nat → a → Option g) : Option g := match x with
  | some (c, y) => f c y
  | none => none
theorem zc1_some {a g : Type} {x : Option ((Nat × Nat) × a)} {f : Nat × Nat → a → Option g} {r : g} (h : zc1 x f = some r) : ∃ c y, x = some (c, y) ∧ f c y = some r := by
  cases x with
  | none => cases h
  | some p => exact ⟨p.1, p.2, rfl, h⟩
def zcs {a b g : Type} (x : Option ((Nat × Nat) × (a ⊕ b))) (f : Nat × Nat → a → Option g) (k : Nat × Nat → b → Option g) : Option g := match x with
  | some (c, .inl y) => f c y
  | some (c, .inr y) => k c y
  | none => none
theorem zcs_some {a b g : Type} {x : Option ((Nat × Nat) × (a ⊕ b))} {f : Nat × Nat → a → Option g} {k : Nat × Nat → b → Option g} {r : g} (h : zcs x f k = some r) : (∃ c y, x = some (c, .inl y) ∧ f c y = some r) ∨ (∃ c y, x = some (c, .inr y) ∧ k c y = some r) := by
  cases x with
  | none => cases h
  | some p =>
    obtain ⟨c, y⟩ := p
    cases y with
    | inl y => exact Or.inl ⟨c, y, rfl, h⟩
    | inr y => exact Or.inr ⟨c, y, rfl, h⟩
section Z10
variable {l : Launch} {G : zGt} {M : zM} {fr lo mc ms pc n : Nat} {lv lv' : List (Nat × Value)} {st : List Value} {K K1 : zKd} {F F1 : zFd} {I I1 : zId} {L L1 : zLd} {Q : zQt} {h h1 : zSt}
theorem z_toI (e : h1 = zsI h I) (k : zW l G M fr lo mc ms pc lv st (hK h1) (jF h1) (hI h1) (hL h1) Q) : zW l G M fr lo mc ms pc lv st (hK h) (jF h) I (hL h) Q := by
  subst e; exact k
theorem z_toF (e : h1 = zsF h F) (k : zW l G M fr lo mc ms pc lv st (hK h1) (jF h1) (hI h1) (hL h1) Q) : zW l G M fr lo mc ms pc lv st (hK h) F (hI h) (hL h) Q := by
  subst e; exact k
theorem z_toL (e : h1 = zsL h L) (k : zW l G M fr lo mc ms pc lv st (hK h1) (jF h1) (hI h1) (hL h1) Q) : zW l G M fr lo mc ms pc lv st (hK h) (jF h) (hI h) L Q := by
  subst e; exact k
theorem z_newS {c idx N x m w : Nat} {C : String} (hd : decode M.2.1 pc = .ok (.new idx, 3)) (hn : pc + 3 = n) (hc : zOk c) (hC : ∃ q : vw_C, zCl[c]? = some q ∧ q.1 = C ∧ Cond.instantiable C q.2.2 ∈ lw_all) (hq1 : Cond.classLink M.1 idx C ∈ lw_all) (hq2 : Cond.initialized C ∈ lw_all) (hf : zfree h = true) (ex : x = hN h) (e : h1 = znA h c 0) (hNN : zN c = N)
    (kk : zW l G M fr lo m w n lv (.ref x :: st) (hK h1) (jF h1) (hI h1) (hL h1) Q) : zW l G M fr lo (m + 1) (w + N) pc lv st (hK h) (jF h) (hI h) (hL h) Q := by
  subst ex; subst e; subst hNN
  obtain ⟨f1, f2⟩ := zfree_ok hf
  exact z_new hd hn hc hC hq1 hq2 f2 f1 (Nat.le_refl _) (Nat.le_refl _) kk
theorem z_newaS {t N x m w : Nat} {i : Int32} (atype : ArrayType) (hd : decode M.2.1 pc = .ok (.newarray atype, 2)) (hn : pc + 2 = n) (hta : newarray.typeOf atype = zAr t) (ht : t < 4) (hq1 : Cond.arrayClass (newarray.typeOf atype) ∈ lw_all) (hi : zarrn i = true) (hN' : i.toNatClampNeg = N) (hby : componentBytes (zAr t) ≤ 8) (hf : zfree h = true) (ex : x = hN h) (e : h1 = znA h (64 + t) N)
    (kk : zW l G M fr lo m w n lv (.ref x :: st) (hK h1) (jF h1) (hI h1) (hL h1) Q) : zW l G M fr lo (m + 1) (w + N) pc lv (.int i :: st) (hK h) (jF h) (hI h) (hL h) Q := by
  subst ex; subst e
  obtain ⟨f1, f2⟩ := zfree_ok hf
  obtain ⟨g1, g2⟩ := zarrn_ok hi
  refine z_newa atype hd hn hta ht hq1 f2 f1 g1 hN' ?_ (Nat.le_refl _) (Nat.le_refl _) kk
  rw [← hN']
  exact Nat.le_trans (Nat.mul_le_mul g2 hby) (by decide)
theorem z_anewS {t N x m w idx : Nat} {i : Int32} {C : String} (hd : decode M.2.1 pc = .ok (.anewarray idx, 3)) (hn : pc + 3 = n) (hta : (t = 4 ∧ C = "java/lang/Object") ∨ (t = 5 ∧ C = "java/lang/String")) (hq1 : Cond.classLink M.1 idx C ∈ lw_all) (hi : zarrn i = true) (hN' : i.toNatClampNeg = N) (hf : zfree h = true) (ex : x = hN h) (e : h1 = znA h (64 + t) N)
    (kk : zW l G M fr lo m w n lv (.ref x :: st) (hK h1) (jF h1) (hI h1) (hL h1) Q) : zW l G M fr lo (m + 1) (w + N) pc lv (.int i :: st) (hK h) (jF h) (hI h) (hL h) Q := by
  subst ex; subst e
  obtain ⟨f1, f2⟩ := zfree_ok hf
  obtain ⟨g1, g2⟩ := zarrn_ok hi
  refine z_anew hd hn hta hq1 f2 f1 g1 hN' ?_ (Nat.le_refl _) (Nat.le_refl _) kk
  rw [← hN']
  exact Nat.le_trans (Nat.mul_le_mul_right 4 g2) (by decide)
theorem z_cI {idx nA fr1 lo1 mc1 ms1 mc2 ms2 maxL b : Nat} {y : MethodName} {bytes : ByteArray} {C : String} {As st0 : List Value} {v : Option Value} (hm : zMet l G y (ws_ y bytes maxL none) fr1 lo1 mc1 ms1 (.ref b :: As) K F I L (zQe (.inl v) K1 F1 I1 L1)) (hd : decode M.2.1 pc = .ok (.invokespecial idx, 3)) (hn : pc + 3 = n) (hq0 : Cond.code y bytes maxL none ∈ lw_all) (hq1 : Cond.initialized y.cls ∈ lw_all) (hq2 : Cond.methodLink M.1 idx y ∈ lw_all) (hq3 : Cond.instanceMethod y ∈ lw_all)
    (hy1 : y.name = "<init>") (hy : zCee y C nA) (hA : As.length = nA) (hR1 : fr1 + 1 ≤ fr ∧ 8 + (maxL + 11) + lo1 ≤ lo) (hs : st0 = As.reverse ++ .ref b :: st) (hst : (st.map fun v => v.category).sum ≤ 8) (hmc : mc2 + mc1 ≤ mc) (hms : ms2 + ms1 ≤ ms)
    (kk : zW l G M fr lo mc2 ms2 n lv (v.toList ++ st) K1 F1 I1 L1 Q) : zW l G M fr lo mc ms pc lv st0 K F I L Q :=
  z_callI hm hd hn hq0 hq1 hq2 hq3 hy1 hy.2 hA hR1 hs hst hmc hms (zQe_kk kk) zQe_kx
theorem z_cIN {idx nA fr1 lo1 mc1 ms1 mc2 ms2 maxL b : Nat} {host : String} {y : MethodName} {bytes : ByteArray} {C : String} {As st0 : List Value} {v : Option Value} (hm : zMet l G y (ws_ y bytes maxL none) fr1 lo1 mc1 ms1 (.ref b :: As) K F I L (zQe (.inl v) K1 F1 I1 L1)) (hd : decode M.2.1 pc = .ok (.invokespecial idx, 3)) (hn : pc + 3 = n) (hq0 : Cond.code y bytes maxL none ∈ lw_all) (hq1 : Cond.initialized y.cls ∈ lw_all) (hq2 : Cond.methodLinkNest M.1 idx y host ∈ lw_tbl) (hq3 : Cond.instanceMethod y ∈ lw_all)
    (hy1 : y.name = "<init>") (hy : zCee y C nA) (hA : As.length = nA) (hR1 : fr1 + 1 ≤ fr ∧ 8 + (maxL + 11) + lo1 ≤ lo) (hs : st0 = As.reverse ++ .ref b :: st) (hst : (st.map fun v => v.category).sum ≤ 8) (hmc : mc2 + mc1 ≤ mc) (hms : ms2 + ms1 ≤ ms)
    (kk : zW l G M fr lo mc2 ms2 n lv (v.toList ++ st) K1 F1 I1 L1 Q) : zW l G M fr lo mc ms pc lv st0 K F I L Q :=
  z_callIN hm hd hn hq0 hq1 hq2 hq3 hy1 hy.2 hA hR1 hs hst hmc hms (zQe_kk kk) zQe_kx
theorem z_aastK {t o n0 j c n1 : Nat} {i : Int32} {q : vw_C} {E : String} (k : Nat) (hi : i.toNatClampNeg = k) (hd : decode M.2.1 pc = .ok (.aastore, 1)) (hn : pc + 1 = n) (hta : (t = 4 ∧ E = "java/lang/Object") ∨ (t = 5 ∧ E = "java/lang/String")) (hk : K o = some (64 + t, n0)) (ho : zNC ≤ o) (hj : K j = some (c, n1)) (hc : zCl[c]? = some q) (hcast : Cond.castable q.1 E ∈ lw_tbl ∨ q.1 = E) (hin : vp_in i n0)
    (kk : zW l G M fr lo mc ms n lv st K (zu F o k (some j)) I L Q) : zW l G M fr lo mc ms pc lv (.ref j :: .int i :: .ref o :: st) K F I L Q := by
  subst hi
  exact z_aast hd hn hta hk ho hj hc hcast hin kk
theorem z_aastNK {t o n0 : Nat} {i : Int32} {E : String} (k : Nat) (hi : i.toNatClampNeg = k) (hd : decode M.2.1 pc = .ok (.aastore, 1)) (hn : pc + 1 = n) (hta : (t = 4 ∧ E = "java/lang/Object") ∨ (t = 5 ∧ E = "java/lang/String")) (hk : K o = some (64 + t, n0)) (ho : zNC ≤ o) (hin : vp_in i n0)
    (kk : zW l G M fr lo mc ms n lv st K (zu F o k none) I L Q) : zW l G M fr lo mc ms pc lv (.null :: .int i :: .ref o :: st) K F I L Q := by
  subst hi
  exact z_aastN hd hn hta hk ho hin kk
theorem z_aastO {o n0 j c : Nat} {i : Int32} (k : Nat) (hi : i.toNatClampNeg = k) (hd : decode M.2.1 pc = .ok (.aastore, 1)) (hn : pc + 1 = n) (hk : K o = some (64 + 4, n0)) (ho : zNC ≤ o) (hj : ∃ n1, K j = some (c, n1) ∧ (c = 5 ∨ c = 9 ∨ c = 10 ∨ c = 17)) (hin : vp_in i n0)
    (kk : zW l G M fr lo mc ms n lv st K (zu F o k (some j)) I L Q) : zW l G M fr lo mc ms pc lv (.ref j :: .int i :: .ref o :: st) K F I L Q := by
  subst hi
  obtain ⟨n1, hj, e | e | e | e⟩ := hj
  · subst e; exact z_aast hd hn (Or.inl ⟨rfl, rfl⟩) hk ho hj rfl (Or.inl q2312) hin kk
  · subst e; exact z_aast hd hn (Or.inl ⟨rfl, rfl⟩) hk ho hj rfl (Or.inl q2317) hin kk
  · subst e; exact z_aast hd hn (Or.inl ⟨rfl, rfl⟩) hk ho hj rfl (Or.inl q2318) hin kk
  · subst e; exact z_aast hd hn (Or.inl ⟨rfl, rfl⟩) hk ho hj rfl (Or.inl q2319) hin kk
theorem zk80 {o n0 : Nat} (h : K o = some (8, n0)) (e : n0 = 0) : K o = some (8, 0) := by rw [h, e]
end Z10
