/-! Z7: the words that the generated functions are made of, and the calls' short forms -/
def zg {α : Type} (b : Bool) (x : Option α) : Option α := match b with
  | true => x
  | false => none
theorem zg_some {α : Type} {b : Bool} {x : Option α} {r : α} (h : zg b x = some r) : b = true ∧ x = some r := by
  cases b with
  | true => exact ⟨rfl, h⟩
  | false => cases h
theorem zg_true {α : Type} {x : Option α} : zg true x = x := rfl
def zlet {α β : Type} (a : α) (f : α → β) : β := f a
theorem zlet_ob {α β : Type} {a : α} {f : α → β} {r : β} (h : zlet a f = r) : ∃ x, x = a ∧ f x = r := ⟨a, rfl, h⟩
def zb1 {α γ : Type} (x : Option α) (f : α → Option γ) : Option γ := match x with
  | some a => f a
  | none => none
def zb2 {α β γ : Type} (x : Option (α × β)) (f : α → β → Option γ) : Option γ := match x with
  | some (a, b) => f a b
  | none => none
theorem zb1_some {α γ : Type} {x : Option α} {f : α → Option γ} {r : γ} (h : zb1 x f = some r) : ∃ a, x = some a ∧ f a = some r := by
  cases x with
  | none => cases h
  | some a => exact ⟨a, rfl, h⟩
theorem zb2_some {α β γ : Type} {x : Option (α × β)} {f : α → β → Option γ} {r : γ} (h : zb2 x f = some r) : ∃ a b, x = some (a, b) ∧ f a b = some r := by
  cases x with
  | none => cases h
  | some p => exact ⟨p.1, p.2, rfl, h⟩
theorem zb1_eq {α γ : Type} {x : Option α} {f : α → Option γ} {a : α} (h : x = some a) : zb1 x f = f a := by rw [h]; rfl
theorem zb2_eq {α β γ : Type} {x : Option (α × β)} {f : α → β → Option γ} {a : α} {b : β} (h : x = some (a, b)) : zb2 x f = f a b := by rw [h]; rfl
/-- a result that may leave the method at once (.inr) -/
def zs1 {α ρ γ : Type} (x : Option (α ⊕ ρ)) (f : α → Option γ) (g : ρ → Option γ) : Option γ := match x with
  | some (.inl a) => f a
  | some (.inr q) => g q
  | none => none
theorem zs1_some {α ρ γ : Type} {x : Option (α ⊕ ρ)} {f : α → Option γ} {g : ρ → Option γ} {r : γ} (h : zs1 x f g = some r) : (∃ a, x = some (.inl a) ∧ f a = some r) ∨ (∃ q, x = some (.inr q) ∧ g q = some r) := by
  cases x with
  | none => cases h
  | some p => cases p with
    | inl a => exact Or.inl ⟨a, rfl, h⟩
    | inr q => exact Or.inr ⟨q, rfl, h⟩
theorem zs1_inl {α ρ γ : Type} {x : Option (α ⊕ ρ)} {f : α → Option γ} {g : ρ → Option γ} {a : α} (h : x = some (.inl a)) : zs1 x f g = f a := by rw [h]; rfl
theorem zs1_inr {α ρ γ : Type} {x : Option (α ⊕ ρ)} {f : α → Option γ} {g : ρ → Option γ} {q : ρ} (h : x = some (.inr q)) : zs1 x f g = g q := by rw [h]; rfl
/-- i is a place of an array of n places -/
def zin (i : Int32) (n : Nat) : Bool := !(decide (i < 0)) && decide (i.toNatClampNeg < n)
theorem zin_ok {i : Int32} {n : Nat} (h : zin i n = true) : vp_in i n := by
  simp only [zin, Bool.and_eq_true, Bool.not_eq_true', decide_eq_false_iff_not, decide_eq_true_eq] at h
  intro q
  rcases q with q | q
  · exact h.1 q
  · omega
theorem zin_nI {k n : Nat} (h : k < n) (hn : n < 2 ^ 31) : zin (nI k) n = true := by
  have h1 : (nI k).toNatClampNeg = k := nI_clamp (by omega)
  simp only [zin, h1, Bool.and_eq_true, Bool.not_eq_true', decide_eq_false_iff_not, decide_eq_true_eq]
  exact ⟨nI_pos (by omega), h⟩
/-- a kind that an object must have -/
def zka {α : Type} (K : zKd) (o c : Nat) (f : Nat → Option α) : Option α := match K o with
  | some (c', n) => if c' = c then f n else none
  | none => none
theorem zka_some {α : Type} {K : zKd} {o c : Nat} {f : Nat → Option α} {r : α} (h : zka K o c f = some r) : ∃ n, K o = some (c, n) ∧ f n = some r := by
  unfold zka at h
  split at h
  · rename_i c' n e
    split at h
    · rename_i e2
      exact ⟨n, by rw [e, e2], h⟩
    · cases h
  · cases h
theorem zka_eq {α : Type} {K : zKd} {o c n : Nat} {f : Nat → Option α} (h : K o = some (c, n)) : zka K o c f = f n := by
  unfold zka
  rw [h]
  exact if_pos rfl
def zn2 {a b r : Type} (f : a → b → r) (p : a × b) : r := f p.1 p.2
def zn3 {a b c r : Type} (f : a → b → c → r) (p : a × b × c) : r := f p.1 p.2.1 p.2.2
def zn4 {a b c d r : Type} (f : a → b → c → d → r) (p : a × b × c × d) : r := f p.1 p.2.1 p.2.2.1 p.2.2.2
def zn5 {a b c d e r : Type} (f : a → b → c → d → e → r) (p : a × b × c × d × e) : r := f p.1 p.2.1 p.2.2.1 p.2.2.2.1 p.2.2.2.2
def zn6 {a b c d e g r : Type} (f : a → b → c → d → e → g → r) (p : a × b × c × d × e × g) : r := f p.1 p.2.1 p.2.2.1 p.2.2.2.1 p.2.2.2.2.1 p.2.2.2.2.2
theorem zbool_nar {v : Int32} (h : (decide (v = 0) || decide (v = 1)) = true) : narrow .boolean (.int v) = .int v := by
  simp only [Bool.or_eq_true, decide_eq_true_eq] at h
  rcases h with rfl | rfl <;> rfl
/-! loops -/
def zrun {σ τ : Type} (body : σ → Option (σ ⊕ τ)) : Nat → σ → Option τ
  | 0, _ => none
  | n + 1, s => match body s with
    | none => none
    | some (.inl s') => zrun body n s'
    | some (.inr t) => some t
noncomputable def zloop {σ τ : Type} (body : σ → Option (σ ⊕ τ)) (s : σ) : Option τ :=
  @dite _ (∃ n t, zrun body n s = some t) (Classical.propDecidable _) (fun h => zrun body (Classical.choose h) s) (fun _ => none)
theorem zrun_mono {σ τ : Type} {body : σ → Option (σ ⊕ τ)} {t : τ} : ∀ {n m : Nat} {s : σ}, n ≤ m → zrun body n s = some t → zrun body m s = some t := by
  intro n
  induction n with
  | zero => intro m s _ h; cases h
  | succ n ih =>
    intro m s hm h
    obtain ⟨m, rfl⟩ : ∃ k, m = k + 1 := ⟨m - 1, by omega⟩
    simp only [zrun] at h ⊢
    split at h
    · cases h
    · exact ih (by omega) h
    · exact h
theorem zloop_of {σ τ : Type} {body : σ → Option (σ ⊕ τ)} {s : σ} {t : τ} {n : Nat} (h : zrun body n s = some t) : zloop body s = some t := by
  have hx : ∃ n t, zrun body n s = some t := ⟨n, t, h⟩
  unfold zloop
  rw [dif_pos hx]
  obtain ⟨t', h'⟩ := Classical.choose_spec hx
  rw [h']
  have h1 := zrun_mono (Nat.le_max_left n (Classical.choose hx)) h
  have h2 := zrun_mono (Nat.le_max_right n (Classical.choose hx)) h'
  exact h2.symm.trans h1
theorem zloop_run {σ τ : Type} {body : σ → Option (σ ⊕ τ)} {s : σ} {t : τ} (h : zloop body s = some t) : ∃ n, zrun body n s = some t := by
  unfold zloop at h
  split at h
  · exact ⟨_, h⟩
  · cases h
theorem zloop_ind {σ τ : Type} {body : σ → Option (σ ⊕ τ)} {t : τ} {P : σ → Prop} (h : ∀ s r, body s = some r → (∀ s', r = .inl s' → P s') → (∀ t', r = .inr t' → t' = t) → P s) : ∀ {s : σ}, zloop body s = some t → P s := by
  intro s hl
  obtain ⟨n, hn⟩ := zloop_run hl
  clear hl
  induction n generalizing s with
  | zero => cases hn
  | succ n ih =>
    simp only [zrun] at hn
    split at hn
    · cases hn
    · rename_i s' e
      exact h s _ e (fun s2 e2 => by cases e2; exact ih hn) (fun t' e2 => by cases e2)
    · rename_i t' e
      exact h s _ e (fun s2 e2 => by cases e2) (fun t2 e2 => by cases e2; exact Option.some.inj hn)
/-- a step of the loop; its end -/
theorem zloop_step {σ τ : Type} {body : σ → Option (σ ⊕ τ)} {s s' : σ} (h : body s = some (.inl s')) : zloop body s = zloop body s' := by
  cases e : zloop body s' with
  | some t =>
    obtain ⟨n, hn⟩ := zloop_run e
    exact zloop_of (n := n + 1) (by simp only [zrun, h]; exact hn)
  | none =>
    cases e2 : zloop body s with
    | none => rfl
    | some t =>
      obtain ⟨n, hn⟩ := zloop_run e2
      cases n with
      | zero => cases hn
      | succ n =>
        simp only [zrun, h] at hn
        rw [zloop_of hn] at e
        cases e
theorem zloop_end {σ τ : Type} {body : σ → Option (σ ⊕ τ)} {s : σ} {t : τ} (h : body s = some (.inr t)) : zloop body s = some t := zloop_of (n := 1) (by simp only [zrun, h])
/-- a loop that counts: from s (at i) on, an invariant that goes from i to i + 1, and ends at e -/
theorem zloop_up {σ τ : Type} {body : σ → Option (σ ⊕ τ)} (Inv : Nat → σ → Prop) (Post : τ → Prop) (e : Nat) (hs : ∀ i s, i < e → Inv i s → (∃ s', body s = some (.inl s') ∧ Inv (i + 1) s') ∨ ∃ t, body s = some (.inr t) ∧ Post t) (he : ∀ s, Inv e s → ∃ t, body s = some (.inr t) ∧ Post t) : ∀ (i : Nat) (s : σ), i ≤ e → Inv i s → ∃ t, zloop body s = some t ∧ Post t := by
  intro i
  induction h : e - i generalizing i with
  | zero =>
    intro s hi h1
    obtain rfl : i = e := by omega
    obtain ⟨t, h2, h3⟩ := he s h1
    exact ⟨t, zloop_end h2, h3⟩
  | succ n ih =>
    intro s hi h1
    rcases hs i s (by omega) h1 with ⟨s', h2, h3⟩ | ⟨t, h2, h3⟩
    · rw [zloop_step h2]
      exact ih (i + 1) (by omega) s' (by omega) h3
    · exact ⟨t, zloop_end h2, h3⟩
def zsum {a b r : Type} (x : a ⊕ b) (f : a → Option r) (g : b → Option r) : Option r := match x with
  | .inl v => f v
  | .inr w => g w
theorem zsum_some {a b r : Type} {x : a ⊕ b} {f : a → Option r} {g : b → Option r} {y : r} (h : zsum x f g = some y) : (∃ v, x = .inl v ∧ f v = some y) ∨ (∃ w, x = .inr w ∧ g w = some y) := by
  cases x with
  | inl v => exact Or.inl ⟨v, rfl, h⟩
  | inr w => exact Or.inr ⟨w, rfl, h⟩
def zb3 {a b c r : Type} (x : Option (a × b × c)) (f : a → b → c → Option r) : Option r := match x with
  | some (a, b, c) => f a b c
  | none => none
theorem zb3_some {a b c r : Type} {x : Option (a × b × c)} {f : a → b → c → Option r} {y : r} (h : zb3 x f = some y) : ∃ u v w, x = some (u, v, w) ∧ f u v w = some y := by
  cases x with
  | none => cases h
  | some p => exact ⟨p.1, p.2.1, p.2.2, rfl, h⟩
def zoi (x : Int32 ⊕ (String × Nat)) : Option Value ⊕ (String × Nat) := match x with
  | .inl v => .inl (some (.int v))
  | .inr w => .inr w
def zov (x : Unit ⊕ (String × Nat)) : Option Value ⊕ (String × Nat) := match x with
  | .inl _ => .inl none
  | .inr w => .inr w
def zor (x : Option Nat ⊕ (String × Nat)) : Option Value ⊕ (String × Nat) := match x with
  | .inl v => .inl (some (zrf v))
  | .inr w => .inr w
/-- what an outcome costs: an exception is an object of six slots -/
def zxc {a : Type} (x : a ⊕ (String × Nat)) : Nat := match x with
  | .inl _ => 0
  | .inr _ => 1
def zxs {a : Type} (x : a ⊕ (String × Nat)) : Nat := match x with
  | .inl _ => 0
  | .inr _ => 6
def zfitsZ (v : Int32) : Bool := decide (v = 0) || decide (v = 1)
theorem zfitsZ_ok {v : Int32} (h : zfitsZ v = true) : narrow .boolean (.int v) = .int v ∧ fits .boolean (.int v) = true := by
  simp only [zfitsZ, Bool.or_eq_true, decide_eq_true_eq] at h
  rcases h with rfl | rfl <;> exact ⟨rfl, rfl⟩
def zfitsB (v : Int32) : Bool := decide (v.toInt8.toInt32 = v)
theorem zfitsB_ok {v : Int32} (h : zfitsB v = true) : narrow .byte (.int v) = .int v ∧ fits .byte (.int v) = true := by
  have e := of_decide_eq_true h
  rw [← e]
  exact ⟨pk_nb v, pk_fb v⟩
def zfitsC (v : Int32) : Bool := decide ((v.toUInt32 % 65536).toInt32 = v)
theorem zfitsC_ok {v : Int32} (h : zfitsC v = true) : narrow .char (.int v) = .int v ∧ fits .char (.int v) = true := by
  have e := of_decide_eq_true h
  rw [← e]
  exact ⟨pk_nc v, pk_fc v⟩
theorem zbig {o : Nat} (h : decide (600 ≤ o) = true) : zNC ≤ o := of_decide_eq_true h
theorem zsome {x : Option (Nat × Nat)} (h : x.isSome = true) : x ≠ none := fun e => by rw [e] at h; cases h
theorem znn {x : Option (Nat × Nat)} {q : Nat × Nat} (h : x = some q) : x ≠ none := fun e => by rw [e] at h; cases h
theorem zcat_rf (r : Option Nat) : (zrf r).category = 1 := by cases r <;> rfl
theorem zatt {L : List Cond} (h : L.all (fun w => decide (w ∈ lw_all) || (decide (w ∈ lw_tbl) && zmv w)) = true) : ∀ w ∈ L, w ∈ lw_all ∨ (w ∈ lw_tbl ∧ zmv w = true) := by
  intro w hw
  have h1 := List.all_eq_true.mp h w hw
  rcases (Bool.or_eq_true _ _).mp h1 with g | g
  · exact Or.inl (of_decide_eq_true g)
  · obtain ⟨g1, g2⟩ := (Bool.and_eq_true _ _).mp g
    exact Or.inr ⟨of_decide_eq_true g1, g2⟩
/-- the object's class is one that goes into an array of Objects: State, Forest, Band, Integer -/
def zkl {a : Type} (K : zKd) (o : Nat) (f : Nat → Option a) : Option a := match K o with
  | some (c, _) => if c = 5 ∨ c = 9 ∨ c = 10 ∨ c = 17 then f c else none
  | none => none
theorem zkl_some {a : Type} {K : zKd} {o : Nat} {f : Nat → Option a} {r : a} (h : zkl K o f = some r) : ∃ c, (∃ n, K o = some (c, n) ∧ (c = 5 ∨ c = 9 ∨ c = 10 ∨ c = 17)) ∧ f c = some r := by
  unfold zkl at h
  split at h
  · rename_i c n e
    split at h
    · rename_i e2
      exact ⟨c, ⟨n, e, e2⟩, h⟩
    · cases h
  · cases h
/-! the store of a method that makes objects: the next free number, kinds, references, ints, longs -/
abbrev zSt : Type := Nat × zKd × zFd × zId × zLd
def hN (h : zSt) : Nat := h.1
def hK (h : zSt) : zKd := h.2.1
def jF (h : zSt) : zFd := h.2.2.1
def hI (h : zSt) : zId := h.2.2.2.1
def hL (h : zSt) : zLd := h.2.2.2.2
def zsI (h : zSt) (I : zId) : zSt := (hN h, hK h, jF h, I, hL h)
def zsF (h : zSt) (F : zFd) : zSt := (hN h, hK h, F, hI h, hL h)
def zsL (h : zSt) (L : zLd) : zSt := (hN h, hK h, jF h, hI h, L)
/-- an outcome and a store that are told outright -/
def zQe (o : Option Value ⊕ (String × Nat)) (K : zKd) (F : zFd) (I : zId) (L : zLd) : zQt := fun o' K' F' I' L' => o' = o ∧ K' = K ∧ F' = F ∧ I' = I ∧ L' = L
theorem zQe_rfl {o : Option Value ⊕ (String × Nat)} {K : zKd} {F : zFd} {I : zId} {L : zLd} : zQe o K F I L o K F I L := ⟨rfl, rfl, rfl, rfl, rfl⟩
section Z7
variable {l : Launch} {G : zGt} {M : zM} {fr lo mc ms pc n : Nat} {lv lv' : List (Nat × Value)} {st : List Value} {K K1 : zKd} {F F1 : zFd} {I I1 : zId} {L L1 : zLd} {Q : zQt}
theorem zQe_kk {v : Option Value} {nn mc2 ms2 : Nat} (kk : zW l G M fr lo mc2 ms2 nn lv (v.toList ++ st) K1 F1 I1 L1 Q) : ∀ v' K' F' I' L', zQe (.inl v) K1 F1 I1 L1 (.inl v') K' F' I' L' → zW l G M fr lo mc2 ms2 nn lv (v'.toList ++ st) K' F' I' L' Q := by
  intro v' K' F' I' L' h
  obtain ⟨e, rfl, rfl, rfl, rfl⟩ := h
  cases e
  exact kk
theorem zQe_kx {v : Option Value} {mc2 ms2 : Nat} : ∀ x K' F' I' L', zQe (.inl v) K1 F1 I1 L1 (.inr x) K' F' I' L' → zX l G M fr lo mc2 ms2 pc lv x K' F' I' L' Q := by
  intro v' K' F' I' L' h
  obtain ⟨e, -⟩ := h
  cases e
/-- what is asked of a callee, once for each: own class apart -/
def zCee (y : MethodName) (C : String) (nA : Nat) : Prop := y.cls = C ∧ y.cls ≠ "java/lang/invoke/MethodHandle" ∧ y.cls ≠ "java/lang/invoke/VarHandle" ∧ (parseMethodDescriptor y.desc).map (fun d => d.parameters.length) = some nA
theorem z_cV {idx nA fr1 lo1 mc1 ms1 mc2 ms2 maxL b c n0 : Nat} {y : MethodName} {bytes : ByteArray} {ret : Option FieldType} {C : String} {As st0 : List Value} {q : vw_C} {v : Option Value} (hm : zMet l G y (ws_ y bytes maxL ret) fr1 lo1 mc1 ms1 (.ref b :: As) K F I L (zQe (.inl v) K1 F1 I1 L1)) (hd : decode M.2.1 pc = .ok (.invokevirtual idx, 3)) (hn : pc + 3 = n) (hG : GoodIn lw_all (wsV M.1 idx C y (ws_ y bytes maxL ret)))
    (hy : zCee y C nA) (hA : As.length = nA) (hR1 : fr1 + 1 ≤ fr ∧ 8 + (maxL + 11) + lo1 ≤ lo) (hb : K b = some (c, n0)) (hc : zCl[c]? = some q) (hq : q.1 = C) (hs : st0 = As.reverse ++ .ref b :: st) (hst : (st.map fun v => v.category).sum ≤ 8) (hmc : mc2 + mc1 ≤ mc) (hms : ms2 + ms1 ≤ ms)
    (kk : zW l G M fr lo mc2 ms2 n lv (v.toList ++ st) K1 F1 I1 L1 Q) : zW l G M fr lo mc ms pc lv st0 K F I L Q :=
  z_callV hm hd hn hG hy hA hR1 hb hc hq hs hst hmc hms (zQe_kk kk) zQe_kx
theorem z_cS {idx nA fr1 lo1 mc1 ms1 mc2 ms2 maxL : Nat} {y : MethodName} {bytes : ByteArray} {ret : Option FieldType} {C : String} {As st0 : List Value} {v : Option Value} (hm : zMet l G y (ws_ y bytes maxL ret) fr1 lo1 mc1 ms1 As K F I L (zQe (.inl v) K1 F1 I1 L1)) (hd : decode M.2.1 pc = .ok (.invokestatic idx, 3)) (hn : pc + 3 = n) (hG : GoodIn lw_all (va_wsS M.1 idx y (ws_ y bytes maxL ret)))
    (hy : zCee y C nA) (hA : As.length = nA) (hR1 : fr1 + 1 ≤ fr ∧ 8 + (maxL + 11) + lo1 ≤ lo) (hs : st0 = As.reverse ++ st) (hst : (st.map fun v => v.category).sum ≤ 8) (hmc : mc2 + mc1 ≤ mc) (hms : ms2 + ms1 ≤ ms)
    (kk : zW l G M fr lo mc2 ms2 n lv (v.toList ++ st) K1 F1 I1 L1 Q) : zW l G M fr lo mc ms pc lv st0 K F I L Q :=
  z_callS hm hd hn hG hy.2 hA hR1 hs hst hmc hms (zQe_kk kk) zQe_kx
/-- reads of a field that holds a known reference; of a field with ints -/
theorem z_getRS {c k idx o j : Nat} (hd : decode M.2.1 pc = .ok (.getfield idx, 3)) (hn : pc + 3 = n) (hc : zOk c) (hf : zFld M.1 idx c k) (ht : zisR (zTy c k) = true) {n0 : Nat} (hk : K o = some (c, n0)) (hok : zNC ≤ o ∨ zkf c k = true) (hF : F o k = some j)
    (kk : zW l G M fr lo mc ms n lv (.ref j :: st) K F I L Q) : zW l G M fr lo mc ms pc lv (.ref o :: st) K F I L Q :=
  z_getR hd hn hc hf ht hk hok hF kk
theorem z_istore_nE {j : Fin 4} {i : Nat} {x v : Int32} (hd : decode M.2.1 pc = .ok (.istore_n j, 1)) (hn : pc + 1 = n) (he : v = x) (hi : (j : Nat) = i) (hi2 : i < M.2.2.1) (hlv : zset lv i (.int v) = lv') (k : zW l G M fr lo mc ms n lv' st K F I L Q) : zW l G M fr lo mc ms pc lv (.int x :: st) K F I L Q := by
  subst he
  exact z_istore_n hd hn hi hi2 hlv k
theorem z_istoreE {i : Nat} {x v : Int32} (hd : decode M.2.1 pc = .ok (.istore i, 2)) (hn : pc + 2 = n) (he : v = x) (hi2 : i < M.2.2.1) (hlv : zset lv i (.int v) = lv') (k : zW l G M fr lo mc ms n lv' st K F I L Q) : zW l G M fr lo mc ms pc lv (.int x :: st) K F I L Q := by
  subst he
  exact z_istore hd hn hi2 hlv k
theorem z_iincE {i : Nat} {j : Int} {x w v : Int32} (hd : decode M.2.1 pc = .ok (.iinc i j, 3)) (hn : pc + 3 = n) (q : Nat) (hq : lv[q]? = some (i, .int x)) (hw : Int32.ofInt j = w) (he : v = x + w) (hi2 : i < M.2.2.1) (hlv : zset lv i (.int v) = lv') (k : zW l G M fr lo mc ms n lv' st K F I L Q) : zW l G M fr lo mc ms pc lv st K F I L Q :=
  z_iinc hd hn q hq (by rw [hw, he]) hi2 hlv k
theorem z_ialdK {o n0 : Nat} {i : Int32} (k : Nat) (hi : i.toNatClampNeg = k) (hd : decode M.2.1 pc = .ok (.iaload, 1)) (hn : pc + 1 = n) (hk : K o = some (64 + 0, n0)) (hin : vp_in i n0) (kk : zW l G M fr lo mc ms n lv (.int (I o k) :: st) K F I L Q) : zW l G M fr lo mc ms pc lv (.int i :: .ref o :: st) K F I L Q := by
  subst hi
  exact z_iald hd hn hk hin kk
theorem z_baldK {o n0 : Nat} {i : Int32} (k : Nat) (hi : i.toNatClampNeg = k) (hd : decode M.2.1 pc = .ok (.baload, 1)) (hn : pc + 1 = n) (hk : K o = some (64 + 1, n0)) (hin : vp_in i n0) (kk : zW l G M fr lo mc ms n lv (.int (I o k) :: st) K F I L Q) : zW l G M fr lo mc ms pc lv (.int i :: .ref o :: st) K F I L Q := by
  subst hi
  exact z_bald hd hn hk hin kk
theorem z_zaldK {o n0 : Nat} {i : Int32} (k : Nat) (hi : i.toNatClampNeg = k) (hd : decode M.2.1 pc = .ok (.baload, 1)) (hn : pc + 1 = n) (hk : K o = some (64 + 2, n0)) (hin : vp_in i n0) (kk : zW l G M fr lo mc ms n lv (.int (I o k) :: st) K F I L Q) : zW l G M fr lo mc ms pc lv (.int i :: .ref o :: st) K F I L Q := by
  subst hi
  exact z_zald hd hn hk hin kk
theorem z_iastK {o n0 : Nat} {i x : Int32} (k : Nat) (hi : i.toNatClampNeg = k) (hd : decode M.2.1 pc = .ok (.iastore, 1)) (hn : pc + 1 = n) (hk : K o = some (64 + 0, n0)) (ho : zNC ≤ o) (hin : vp_in i n0) (he : I1 = zu I o k x) (kk : zW l G M fr lo mc ms n lv st K F I1 L Q) : zW l G M fr lo mc ms pc lv (.int x :: .int i :: .ref o :: st) K F I L Q := by
  subst hi; subst he
  exact z_iast hd hn hk ho hin kk
theorem z_bastK {o n0 : Nat} {i x : Int32} (k : Nat) (hi : i.toNatClampNeg = k) (hd : decode M.2.1 pc = .ok (.bastore, 1)) (hn : pc + 1 = n) (hk : K o = some (64 + 1, n0)) (ho : zNC ≤ o) (hin : vp_in i n0) (he : I1 = zu I o k (vp_nar .byte x)) (kk : zW l G M fr lo mc ms n lv st K F I1 L Q) : zW l G M fr lo mc ms pc lv (.int x :: .int i :: .ref o :: st) K F I L Q := by
  subst hi; subst he
  exact z_bast hd hn hk ho hin kk
theorem z_zastK {o n0 : Nat} {i x : Int32} (k : Nat) (hi : i.toNatClampNeg = k) (hd : decode M.2.1 pc = .ok (.bastore, 1)) (hn : pc + 1 = n) (hk : K o = some (64 + 2, n0)) (ho : zNC ≤ o) (hin : vp_in i n0) (he : I1 = zu I o k (vp_nar .boolean x)) (kk : zW l G M fr lo mc ms n lv st K F I1 L Q) : zW l G M fr lo mc ms pc lv (.int x :: .int i :: .ref o :: st) K F I L Q := by
  subst hi; subst he
  exact z_zast hd hn hk ho hin kk
theorem z_putIE {c k idx o : Nat} {x : Int32} (hd : decode M.2.1 pc = .ok (.putfield idx, 3)) (hn : pc + 3 = n) (hc : zOk c) (hf : zFld M.1 idx c k) (hfin : (∃ q : vw_C, zCl[c]? = some q ∧ (q.2.1 k).2.2.2 = false) ∨ (M.2.2.2.2.1 = "<init>" ∧ ∃ q : vw_C, zCl[c]? = some q ∧ (q.2.1 k).2.2.2 = true ∧ (q.2.1 k).1 = M.1)) (ht : zisI (zTy c k) = true) (hx : narrow (zTy c k) (.int x) = .int x ∧ fits (zTy c k) (.int x) = true) {n0 : Nat} (hk : K o = some (c, n0)) (ho : zNC ≤ o) (he : I1 = zu I o k x)
    (kk : zW l G M fr lo mc ms n lv st K F I1 L Q) : zW l G M fr lo mc ms pc lv (.int x :: .ref o :: st) K F I L Q := by
  subst he
  exact z_putI hd hn hc hf hfin ht hx hk ho kk
theorem z_alenK {o n0 : Nat} {v : Int32} (t : Nat) (ht : t < 8) (hd : decode M.2.1 pc = .ok (.arraylength, 1)) (hn : pc + 1 = n) (hk : K o = some (64 + t, n0)) (hv : Int32.ofNat n0 = v) (kk : zW l G M fr lo mc ms n lv (.int v :: st) K F I L Q) : zW l G M fr lo mc ms pc lv (.ref o :: st) K F I L Q := by
  subst hv
  exact z_alen t ht hd hn hk kk
theorem z_cVx {idx nA fr1 lo1 mc1 ms1 mc2 ms2 maxL b c n0 : Nat} {y : MethodName} {bytes : ByteArray} {ret : Option FieldType} {C : String} {As st0 : List Value} {q : vw_C} {x : String × Nat} (hm : zMet l G y (ws_ y bytes maxL ret) fr1 lo1 mc1 ms1 (.ref b :: As) K F I L (zQe (.inr x) K1 F1 I1 L1)) (hd : decode M.2.1 pc = .ok (.invokevirtual idx, 3)) (hn : pc + 3 = n) (hG : GoodIn lw_all (wsV M.1 idx C y (ws_ y bytes maxL ret)))
    (hy : zCee y C nA) (hA : As.length = nA) (hR1 : fr1 + 1 ≤ fr ∧ 8 + (maxL + 11) + lo1 ≤ lo) (hb : K b = some (c, n0)) (hc : zCl[c]? = some q) (hq : q.1 = C) (hs : st0 = As.reverse ++ .ref b :: st) (hst : (st.map fun v => v.category).sum ≤ 8) (hmc : mc2 + mc1 ≤ mc) (hms : ms2 + ms1 ≤ ms)
    (kx : zX l G M fr lo mc2 ms2 pc lv x K1 F1 I1 L1 Q) : zW l G M fr lo mc ms pc lv st0 K F I L Q := by
  refine z_callV hm hd hn hG hy hA hR1 hb hc hq hs hst hmc hms ?_ ?_
  · intro v' K' F' I' L' h
    obtain ⟨e, -⟩ := h
    cases e
  · intro v' K' F' I' L' h
    obtain ⟨e, rfl, rfl, rfl, rfl⟩ := h
    cases e
    exact kx
theorem z_cSx {idx nA fr1 lo1 mc1 ms1 mc2 ms2 maxL : Nat} {y : MethodName} {bytes : ByteArray} {ret : Option FieldType} {C : String} {As st0 : List Value} {x : String × Nat} (hm : zMet l G y (ws_ y bytes maxL ret) fr1 lo1 mc1 ms1 As K F I L (zQe (.inr x) K1 F1 I1 L1)) (hd : decode M.2.1 pc = .ok (.invokestatic idx, 3)) (hn : pc + 3 = n) (hG : GoodIn lw_all (va_wsS M.1 idx y (ws_ y bytes maxL ret)))
    (hy : zCee y C nA) (hA : As.length = nA) (hR1 : fr1 + 1 ≤ fr ∧ 8 + (maxL + 11) + lo1 ≤ lo) (hs : st0 = As.reverse ++ st) (hst : (st.map fun v => v.category).sum ≤ 8) (hmc : mc2 + mc1 ≤ mc) (hms : ms2 + ms1 ≤ ms)
    (kx : zX l G M fr lo mc2 ms2 pc lv x K1 F1 I1 L1 Q) : zW l G M fr lo mc ms pc lv st0 K F I L Q := by
  refine z_callS hm hd hn hG hy.2 hA hR1 hs hst hmc hms ?_ ?_
  · intro v' K' F' I' L' h
    obtain ⟨e, -⟩ := h
    cases e
  · intro v' K' F' I' L' h
    obtain ⟨e, rfl, rfl, rfl, rfl⟩ := h
    cases e
    exact kx
theorem z_castS {o c n0 idx : Nat} {q : vw_C} {C : String} (hd : decode M.2.1 pc = .ok (.checkcast idx, 3)) (hn : pc + 3 = n) (hk : K o = some (c, n0)) (hc : zCl[c]? = some q) (hq1 : Cond.classLink M.1 idx C ∈ lw_all) (hq2 : q.1 = C) (kk : zW l G M fr lo mc ms n lv (.ref o :: st) K F I L Q) : zW l G M fr lo mc ms pc lv (.ref o :: st) K F I L Q := by
  intro p e R s m args below meth c9 H locs cells slots ls ad ad0 K0 hc9 hR hP hE hw hl
  subst hn
  subst hq2
  exact va_castS hc9.1 hc9.2.1 hc9.2.2.2.1 (hc9.2.2.2.2.1 _ hq1) (hP.2.2.2.2.2.1.1 c q hc).2 (hP.obj hk hc) hd (kk p e R s m args below meth c9 H locs cells slots ls ad ad0 K0 hc9 hR hP hE hw hl)
/-- System.arraycopy of ints -/
def zcpy (I : zId) (src sk dst dk nk : Nat) : zId := fun a b => if a = dst ∧ dk ≤ b ∧ b < dk + nk then I src (sk + (b - dk)) else I a b
def zcpok (sp dp k : Int32) (n0 n1 : Nat) : Bool := !(decide (sp < 0)) && !(decide (dp < 0)) && !(decide (k < 0)) && decide (sp.toNatClampNeg + k.toNatClampNeg ≤ n0) && decide (dp.toNatClampNeg + k.toNatClampNeg ≤ n1)
theorem z_copyi {idx src dst n0 n1 : Nat} {sp dp k : Int32} {sk dk nk : Nat} (hd : decode M.2.1 pc = .ok (.invokestatic idx, 3)) (hn : pc + 3 = n) (hq1 : Cond.methodLink M.1 idx arraycopyName ∈ lw_all) (hq2 : Cond.native arraycopyName ∈ lw_all) (hq3 : Cond.static arraycopyName ∈ lw_all) (hq4 : Cond.initialized "java/lang/System" ∈ lw_all)
    (hk0 : K src = some (64 + 0, n0)) (hk1 : K dst = some (64 + 0, n1)) (hso : zNC ≤ src) (ho : zNC ≤ dst) (hok : zcpok sp dp k n0 n1 = true) (hsk : sp.toNatClampNeg = sk) (hdk : dp.toNatClampNeg = dk) (hnk : k.toNatClampNeg = nk) (he : I1 = zcpy I src sk dst dk nk) (hfr : 1 ≤ fr) (hlo : (st.map fun v => v.category).sum + (nativeFrameWords "java/lang/System" "arraycopy" 5 + 11) ≤ lo)
    (kk : zW l G M fr lo mc ms n lv st K F I1 L Q) : zW l G M fr lo mc ms pc lv (.int k :: .int dp :: .ref dst :: .int sp :: .ref src :: st) K F I L Q := by
  intro p e R s m args below meth c9 H locs cells slots ls ad ad0 K0 hc9 hR hP hE hw hl
  subst hn; subst hsk; subst hdk; subst hnk; subst he
  simp only [zcpok, Bool.and_eq_true, Bool.not_eq_true', decide_eq_false_iff_not, decide_eq_true_eq] at hok
  obtain ⟨⟨⟨⟨h1, h2⟩, h3⟩, h4⟩, h5⟩ := hok
  have hts := hc9.2.2.2.2.1
  have nn : ∀ z : Int32, ¬ z < 0 → z.toInt = (z.toNatClampNeg : Int) := by
    intro z hz
    have hz0 : (0 : Int) ≤ z.toInt := by
      have := Int32.not_lt.mp hz
      simpa using Int32.le_iff_toInt_le.mp this
    show z.toInt = ((z.toInt.toNat : Nat) : Int)
    omega
  obtain ⟨hc0, z0, -⟩ := hP.arrw (t := 0) (by decide) hk0 hso
  obtain ⟨hc1, z1, -⟩ := hP.arrw (t := 0) (by decide) hk1 ho
  obtain ⟨-, k0, hkk0, cm0, hkn0⟩ := (hP.2.2.2.2.2.1.2 0 _ z0).1 n0 (fun j => Value.int (I src j))
  obtain ⟨-, k1, hkk1, cm1, hkn1⟩ := (hP.2.2.2.2.2.1.2 0 _ z1).1 n1 (fun j => Value.int (I dst j))
  intro T hT X
  obtain ⟨vm', X', step⟩ := X.arraycopy hc9.1 hc9.2.2.2.1 (hts _ hq1) (hts _ hq2) (hts _ hq3) (hts _ hq4) (src := ad src) (dst := ad dst) (cs := arrV (G.1.2.2 0) n0 (fun j => Value.int (I src j))) (cd := arrV (G.1.2.2 0) n1 (fun j => Value.int (I dst j))) (srcPos := sp) (destPos := dp) (n := k) (by rw [hT]; exact hc0) (by rw [hT]; exact hc1)
    (fun _ h => by cases h) (fun _ h => by cases h) (fun h => by cases h) (fun h => by cases h) hkk0 hkk1 hkn0 hkn1 rfl h1 h2 h3
    (by rw [nn sp h1, nn k h3, arrV_size]; omega)
    (by rw [nn dp h2, nn k h3, arrV_size]; omega)
    (fun vm₁ _ i hi => by
      have e : (arrV (G.1.2.2 0) n0 (fun j => Value.int (I src j))).slots.getD (sp.toNatClampNeg + i) .null = .int (I src (sp.toNatClampNeg + i)) := by
        rw [Array.getD_eq_getD_getElem?, arrV_read _ _ (by omega)]
        rfl
      rw [e]
      exact ⟨rfl, trivial⟩)
    (g := F0 m pc ls (.int k :: .int dp :: .ref (ad dst) :: .int sp :: .ref (ad src) :: st.map (zc ad))) rfl (hl.1.trans hc9.2.2.1.symm) (rest := st.map (zc ad)) rfl (by rw [hc9.2.1]; exact hd) (by omega) (by show 2 * 0 + _ + _ ≤ _; rw [zcats]; omega)
  have e1 : copied (arrV (G.1.2.2 0) n0 (fun j => Value.int (I src j))) (arrV (G.1.2.2 0) n1 (fun j => Value.int (I dst j))) sp dp k = arrV (G.1.2.2 0) n1 (fun j => Value.int (va_cpy (I src) (I dst) sp.toNatClampNeg dp.toNatClampNeg k.toNatClampNeg j)) := va_copied (fun z => .int z) _ _ (I src) (I dst) h4
  rw [e1] at X' step
  have hla : ad dst < H.size := (Array.getElem?_eq_some_iff.mp hc1).1
  generalize hcell : arrV (G.1.2.2 0) n1 (fun j => Value.int (va_cpy (I src) (I dst) sp.toNatClampNeg dp.toNatClampNeg k.toNatClampNeg j)) = cell' at X' step
  have hheap : ((T.setVm vm').setCell (ad dst) cell').heap = H.setIfInBounds (ad dst) cell' := by rw [← hT]; rfl
  have hK1 : K dst ≠ none := by rw [hk1]; exact fun g => nomatch g
  have hP2 : ∀ l2 : List Loc, (∀ z ∈ l2, z.base = ad dst) → zRep G ad K F (zcpy I src sp.toNatClampNeg dst dp.toNatClampNeg k.toNatClampNeg) L s (H.setIfInBounds (ad dst) cell') (locs ++ l2) := by
    intro l2 hl2
    refine hP.write (F' := F) (L' := L) ho hK1 (by simp) (fun q hq => by simp [Array.getElem?_setIfInBounds, Ne.symm hq]) (fun a ha => ⟨rfl, funext fun b => if_neg fun z => ha z.1, rfl⟩) ?_ (fun b j hj => hP.2.2.1 dst b j hK1 hj) hl2
    · intro c' n' hc'
      cases Option.some.inj (hk1.symm.trans hc')
      refine Or.inr ⟨0, rfl, by decide, ?_⟩
      rw [show (H.setIfInBounds (ad dst) cell')[ad dst]? = some cell' by simp [Array.getElem?_setIfInBounds, hla], ← hcell]
      refine congrArg (fun f => some (arrV _ _ f)) (funext fun j => ?_)
      show Value.int _ = Value.int _
      refine congrArg Value.int ?_
      unfold va_cpy zcpy
      by_cases g : dp.toNatClampNeg ≤ j ∧ j < dp.toNatClampNeg + k.toNatClampNeg
      · rw [if_pos g, if_pos ⟨rfl, g.1, g.2⟩]
      · rw [if_neg g, if_neg fun z => g z.2]
  obtain ⟨t, a1, b1⟩ := kk p e R s m args below meth c9 _ _ cells slots ls ad ad0 K0 hc9 hR (hP2 _ (fun z hz => by obtain ⟨i, -, rfl⟩ := List.mem_map.mp hz; rfl)) hE ⟨hw.1, hw.2.2.2.2.2.2⟩ hl _ hheap X'
  exact ⟨t, step t a1, b1⟩
def zcmpok (r1 r2 : Option Nat) : Bool := match r1, r2 with
  | some i, some j => (decide (600 ≤ i) && !(zopq j)) || ((decide (600 ≤ j) && !(zopq i)) || ((decide (i < 5) && decide (j < 5)) || decide (i = j)))
  | _, _ => true
theorem zcmpok_ok {r1 r2 : Option Nat} (h : zcmpok r1 r2 = true) : ∀ i j, r1 = some i → r2 = some j → zcq i j := by
  intro i j h1 h2
  subst h1; subst h2
  simpa [zcmpok, zcq] using h
theorem zle0 {m k : Nat} (h : k = 0) : m + k ≤ m := by omega
theorem z_aald4S {o n0 j : Nat} {i : Int32} (k : Nat) (hi : i.toNatClampNeg = k) (hd : decode M.2.1 pc = .ok (.aaload, 1)) (hn : pc + 1 = n) (hk : K o = some (64 + 4, n0)) (hin : vp_in i n0) (hF : F o k = some j) (kk : zW l G M fr lo mc ms n lv (.ref j :: st) K F I L Q) : zW l G M fr lo mc ms pc lv (.int i :: .ref o :: st) K F I L Q := by
  subst hi
  exact z_aald4 hd hn hk hin hF kk
theorem z_aald5S {o n0 j : Nat} {i : Int32} (k : Nat) (hi : i.toNatClampNeg = k) (hd : decode M.2.1 pc = .ok (.aaload, 1)) (hn : pc + 1 = n) (hk : K o = some (64 + 5, n0)) (hin : vp_in i n0) (hF : F o k = some j) (kk : zW l G M fr lo mc ms n lv (.ref j :: st) K F I L Q) : zW l G M fr lo mc ms pc lv (.int i :: .ref o :: st) K F I L Q := by
  subst hi
  exact z_aald5 hd hn hk hin hF kk
theorem z_aald7S {o n0 j : Nat} {i : Int32} (k : Nat) (hi : i.toNatClampNeg = k) (hd : decode M.2.1 pc = .ok (.aaload, 1)) (hn : pc + 1 = n) (hk : K o = some (64 + 7, n0)) (hin : vp_in i n0) (hF : F o k = some j) (kk : zW l G M fr lo mc ms n lv (.ref j :: st) K F I L Q) : zW l G M fr lo mc ms pc lv (.int i :: .ref o :: st) K F I L Q := by
  subst hi
  exact z_aald7 hd hn hk hin hF kk
theorem z_inst {o c n0 idx : Nat} {q : vw_C} {C : String} (hd : decode M.2.1 pc = .ok (.instanceof idx, 3)) (hn : pc + 3 = n) (hk : K o = some (c, n0)) (hc : zCl[c]? = some q) (hq1 : Cond.classLink M.1 idx C ∈ lw_all) (hq2 : Cond.castable q.1 C ∈ lw_tbl) (kk : zW l G M fr lo mc ms n lv (.int 1 :: st) K F I L Q) : zW l G M fr lo mc ms pc lv (.ref o :: st) K F I L Q := by
  intro p e R s m args below meth c9 H locs cells slots ls ad ad0 K0 hc9 hR hP hE hw hl
  subst hn
  exact va_instY hc9.1 hc9.2.1 hc9.2.2.2.1 (hc9.2.2.2.2.1 _ hq1) (hP.2.2.2.2.2.2.2.1 _ hq2 rfl) (hP.obj hk hc) hd (kk p e R s m args below meth c9 H locs cells slots ls ad ad0 K0 hc9 hR hP hE ⟨hw.1, trivial, hw.2.2⟩ hl)
theorem zneg0 {a : Nat} {x : Int32} (h : (!(decide (x = 0))) = true) : ¬ x = 0 := by
  simpa using h
end Z7
