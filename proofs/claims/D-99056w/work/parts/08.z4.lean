/-! Z4: zW's rules that touch the heap -/
section Z4
variable {l : Launch} {G : zGt} {M : zM} {fr lo mc ms pc n : Nat} {lv lv' : List (Nat × Value)} {st : List Value} {K : zKd} {F : zFd} {I : zId} {L : zLd} {Q : zQt}
theorem zlink {own : String} {idx c k : Nat} {s : State} {args : Array Value} {q : vw_C} (hf : zFld own idx c k) (hts : ∀ w ∈ lw_all, w.before args s = true) (hnw : zNw s) (hq : zCl[c]? = some q) : k < q.2.2 ∧ ∃ ref : String, ((Cond.fieldLink own idx ref (q.2.1 k).2.1 (q.2.1 k).2.2.1).before args s = true ∨ ∃ host, (Cond.fieldLinkNest own idx ref (q.2.1 k).2.1 (q.2.1 k).2.2.1 host).before args s = true) ∧ ∀ x, s.fieldFound? (q.2.1 k).1 (q.2.1 k).2.1 (q.2.1 k).2.2.1 = some x → s.fieldFound? ref (q.2.1 k).2.1 (q.2.1 k).2.2.1 = some x := by
  obtain ⟨q', h1, h2, ref, h3, h4⟩ := hf
  cases Option.some.inj (hq.symm.trans h1)
  refine ⟨h2, ref, ?_, ?_⟩
  · rcases h3 with h | ⟨host, h⟩
    · exact Or.inl (hts _ h)
    · exact Or.inr ⟨host, va_Nw.use rfl (hnw.1 _ h rfl)⟩
  · rcases h4 with rfl | h
    · exact fun x hx => hx
    · exact fun x hx => u_same (hts _ h) x hx
/-- a field is read -/
theorem z_get {c k idx o : Nat} (hd : decode M.2.1 pc = .ok (.getfield idx, 3)) (hn : pc + 3 = n) (hc : zOk c) (hf : zFld M.1 idx c k) {n0 : Nat} (hk : K o = some (c, n0)) (hok : zNC ≤ o ∨ zkf c k = true) {v : Value} (hv : ∀ ad, zfv ad F I L (zTy c k) o k = zc ad v) (hwv : ∀ j, v = .ref j → F o k = some j)
    (kk : zW l G M fr lo mc ms n lv (v :: st) K F I L Q) : zW l G M fr lo mc ms pc lv (.ref o :: st) K F I L Q := by
  intro p e R s m args below meth c9 H locs cells slots ls ad ad0 K0 hc9 hR hP hE hw hl
  subst hn
  obtain ⟨q, g1, -, g3, g4, -⟩ := hc
  have hx := hc9.1; have hb := hc9.2.1; have hown := hc9.2.2.2.1; have hts := hc9.2.2.2.2.1
  obtain ⟨hk2, ref, hlk, hsm⟩ := zlink hf hts hP.2.2.2.2.2.2.2 g1
  obtain ⟨cf, kf, fi, f, cell, z1, z2, z3, z4, z5⟩ := hP.field hts hk g1 g4 g3 hk2 hok
  rw [hv] at z5
  have hwf : zwf K lv (v :: st) := ⟨hw.1, (by
    cases v with
    | ref j => exact hP.2.2.1 o k j (by rw [hk]; exact fun g => by cases g) (hwv j rfl)
    | _ => trivial), hw.2.2⟩
  have K9 := kk p e R s m args below meth c9 H locs cells slots ls ad ad0 K0 hc9 hR hP hE hwf hl
  rcases hlk with h | ⟨host, h⟩
  · exact W.getf hx hb hown h (hsm _ z1) z2 z3 z4 z5 rfl rfl hd K9
  · exact va_Wgetf hx hb hown h (hsm _ z1) z2 z3 z4 z5 rfl rfl hd K9
theorem z_getI {c k idx o : Nat} (hd : decode M.2.1 pc = .ok (.getfield idx, 3)) (hn : pc + 3 = n) (hc : zOk c) (hf : zFld M.1 idx c k) (ht : zisI (zTy c k) = true) {n0 : Nat} (hk : K o = some (c, n0)) (hok : zNC ≤ o ∨ zkf c k = true)
    (kk : zW l G M fr lo mc ms n lv (.int (I o k) :: st) K F I L Q) : zW l G M fr lo mc ms pc lv (.ref o :: st) K F I L Q :=
  z_get hd hn hc hf hk hok (fun ad => zfv_I ht) (fun j h => by cases h) kk
theorem z_getR {c k idx o : Nat} {r : Option Nat} (hd : decode M.2.1 pc = .ok (.getfield idx, 3)) (hn : pc + 3 = n) (hc : zOk c) (hf : zFld M.1 idx c k) (ht : zisR (zTy c k) = true) {n0 : Nat} (hk : K o = some (c, n0)) (hok : zNC ≤ o ∨ zkf c k = true) (hF : F o k = r)
    (kk : zW l G M fr lo mc ms n lv (zrf r :: st) K F I L Q) : zW l G M fr lo mc ms pc lv (.ref o :: st) K F I L Q := by
  subst hF
  refine z_get hd hn hc hf hk hok (fun ad => ?_) (fun j h => ?_) kk
  · rw [zfv_R ht, zc_rf]
  · cases hr : F o k with
    | none => rw [hr] at h; cases h
    | some i => rw [hr] at h; cases h; rfl
theorem zfits_I {ty : FieldType} {x : Int32} (h : zisI ty = true) (hn : narrow ty (.int x) = .int x) : True := trivial
/-- a field is written -/
theorem z_put {c k idx o : Nat} (hd : decode M.2.1 pc = .ok (.putfield idx, 3)) (hn : pc + 3 = n) (hc : zOk c) (hf : zFld M.1 idx c k) (hfin : (∃ q : vw_C, zCl[c]? = some q ∧ (q.2.1 k).2.2.2 = false) ∨ (M.2.2.2.2.1 = "<init>" ∧ ∃ q : vw_C, zCl[c]? = some q ∧ (q.2.1 k).2.2.2 = true ∧ (q.2.1 k).1 = M.1)) {n0 : Nat} (hk : K o = some (c, n0)) (ho : zNC ≤ o) {v : Value} {F' : zFd} {I' : zId}
    (hnar : ∀ ad, narrow (zTy c k) (zc ad v) = zc ad v) (hfit : ∀ ad, fits (zTy c k) (zc ad v) = true) (hF : ∀ a b, ¬ (a = o ∧ b = k) → F' a b = F a b) (hI : ∀ a b, ¬ (a = o ∧ b = k) → I' a b = I a b) (hv : ∀ ad, zfv ad F' I' L (zTy c k) o k = zc ad v) (hwv : ∀ j, F' o k = some j → F o k = some j ∨ v = .ref j)
    (kk : zW l G M fr lo mc ms n lv st K F' I' L Q) : zW l G M fr lo mc ms pc lv (v :: .ref o :: st) K F I L Q := by
  intro p e R s m args below meth c9 H locs cells slots ls ad ad0 K0 hc9 hR hP hE hw hl
  subst hn
  obtain ⟨q, g1, glt, g3, g4, g5, g6, -⟩ := hc
  have hx := hc9.1; have hb := hc9.2.1; have hown := hc9.2.2.2.1; have hts := hc9.2.2.2.2.1
  obtain ⟨hk2, ref, hlk, hsm⟩ := zlink hf hts hP.2.2.2.2.2.2.2 g1
  have hKn : K o ≠ none := by rw [hk]; exact fun g => by cases g
  have hap := va_apart (own := M.1) hts g4 (zTy c) g5 g6 hP.2.2.2.2.2.1 g1
  rcases (hP.ok ho hk).1 c n0 hk with ⟨gm, cell, q1, q2, q3, q4⟩ | ⟨t, a, -⟩
  · obtain ⟨hS, hfc, kC, hkC, hkind⟩ := hP.2.2.2.2.2.1.1 c q g1
    obtain ⟨cf, kf, fi, f, hi, hsl⟩ := hS k hk2
    have hst := (u_facts hfc hkC (u_lays hts g4 hk2) hi).1
    have hlay := hts _ (g4 _ (u_in_lay hk2))
    have key : ∀ H' : Heap, H'[ad o]? = some (cell.setSlot f.slot (zc ad v)) → H'.size = H.size → (∀ z, z ≠ ad o → H'[z]? = H[z]?) → W p l e R s m args below meth c9 H' (locs ++ [⟨ad o, f.slot⟩]) cells slots (vx_MQ below (zQc G K0 ad0 Q) (zXC G K0 ad0 Q) args s R.cells R.slots (zA G)) (F0 m (pc + 3) ls (st.map (zc ad))) := by
      intro H' e1 e2 e3
      refine kk p e R s m args below meth c9 H' _ cells slots ls ad ad0 K0 hc9 hR (hP.write ho hKn e2 e3 (fun a ha => ⟨funext fun b => hF a b fun z => ha z.1, funext fun b => hI a b fun z => ha z.1, rfl⟩) ?_ (fun b j hj => ?_) (fun z hz => ?_)) hE ⟨hw.1, hw.2.2.2⟩ hl
      · intro c' n' hc'
        cases Option.some.inj (hk.symm.trans hc')
        refine Or.inl ⟨⟨glt, fun e8 => ⟨_, e1, by obtain ⟨cell2, m1, m2⟩ := gm.2 e8; cases Option.some.inj (q1.symm.trans m1); exact m2⟩⟩, t_OB.to (V := updV (fun k => zfv ad F I L (zTy c k) o k) k (zc ad v)) ⟨_, e1, q2, q3, ?_⟩ (fun j hj => ?_)⟩
        · rw [hsl, g3]
          rw [g3] at q4
          exact t_set q4 hap hk2 _
        · by_cases e : j = k
          · subst e; simp only [updV, if_true]; exact (hv ad).symm
          · simp only [updV, if_neg e]
            exact (zfv_eq (by rw [hF o j fun z => e z.2]) (hI o j fun z => e z.2) rfl).symm
      · by_cases e : b = k
        · subst e
          rcases hwv j hj with g | g
          · exact hP.2.2.1 o b j hKn g
          · have := hw.2.1
            rw [g] at this
            exact this
        · rw [hF o b fun z => e z.2] at hj
          exact hP.2.2.1 o b j hKn hj
      · rw [List.mem_singleton.mp hz]
    rcases hfin with ⟨q', z1, z2⟩ | ⟨hin2, q', z1, z2, z3⟩
    · cases Option.some.inj (g1.symm.trans z1)
      unfold u_lay at hlay
      rw [if_neg (by rw [z2]; decide)] at hlay
      have h6 := u_store hfc hkC hkind hlay hi (g5 k hk2) (hnar ad) (hfit ad)
      rcases hlk with h | ⟨host, h⟩
      · exact W.putK hx hb (f := f) ⟨hown, h, ⟨_, _, _, hsm _ hi⟩, hst⟩ (by rw [q2]; exact h6) q1 q3 (by rw [hsl]; exact k2_hasslot (q4 k (by rw [g3]; exact hk2))) rfl rfl hd key
      · exact va_WputK hx hb (f := f) hown h (hsm _ hi) hst (by rw [q2]; exact h6) q1 q3 (by rw [hsl]; exact k2_hasslot (q4 k (by rw [g3]; exact hk2))) rfl rfl hd key
    · cases Option.some.inj (g1.symm.trans z1)
      unfold u_lay at hlay
      rw [if_pos z2] at hlay
      have hcf : m.cls = cf := by
        obtain ⟨_, _, c', _, _, _, -, -, hf', -, -, -, hown2, -⟩ := Cond.laysFinal_spec hlay
        have e1 : c' = cf := by have := hi.symm.trans hf'; simp at this; exact this.1.symm
        rw [z3] at hown2
        rw [← e1]; exact Option.some.inj (hown.symm.trans hown2)
      have h6 := u_fits hfc hkC hkind (Or.inr hlay) hi (g5 k hk2) (hnar ad) (hfit ad)
      rcases hlk with h | ⟨host, h⟩
      · exact W.putFinK hx hb hown h (hsm _ hi) hst hcf (hc9.2.2.2.2.2.2.2.1.trans hin2) (by rw [q2]; exact h6) q1 q3 (by rw [hsl]; exact k2_hasslot (q4 k (by rw [g3]; exact hk2))) rfl rfl hd key
      · refine va_Wputf hx hb hown h (hsm _ hi) hst (Or.inr ⟨hcf, hc9.2.2.2.2.2.2.2.1.trans hin2⟩) q1 (by rw [q3]; exact fun g => by cases g) (by rw [hsl]; exact k2_hasslot (q4 k (by rw [g3]; exact hk2))) h6.1 (by rw [q2, q3]; exact h6.2) rfl rfl hd ?_
        have ha : ad o < H.size := (Array.getElem?_eq_some_iff.mp q1).1
        refine key _ ?_ ?_ ?_
        · simp [Array.getElem?_setIfInBounds, ha]
        · simp
        · intro z hz
          simp [Array.getElem?_setIfInBounds, Ne.symm hz]
  · omega
theorem zfi_int (x : Int32) : narrow .int (.int x) = .int x ∧ fits .int (.int x) = true := ⟨rfl, rfl⟩
theorem z_putI {c k idx o : Nat} {x : Int32} (hd : decode M.2.1 pc = .ok (.putfield idx, 3)) (hn : pc + 3 = n) (hc : zOk c) (hf : zFld M.1 idx c k) (hfin : (∃ q : vw_C, zCl[c]? = some q ∧ (q.2.1 k).2.2.2 = false) ∨ (M.2.2.2.2.1 = "<init>" ∧ ∃ q : vw_C, zCl[c]? = some q ∧ (q.2.1 k).2.2.2 = true ∧ (q.2.1 k).1 = M.1)) (ht : zisI (zTy c k) = true) (hx : narrow (zTy c k) (.int x) = .int x ∧ fits (zTy c k) (.int x) = true) {n0 : Nat} (hk : K o = some (c, n0)) (ho : zNC ≤ o)
    (kk : zW l G M fr lo mc ms n lv st K F (zu I o k x) L Q) : zW l G M fr lo mc ms pc lv (.int x :: .ref o :: st) K F I L Q :=
  z_put hd hn hc hf hfin hk ho (fun _ => hx.1) (fun _ => hx.2) (fun _ _ _ => rfl) (fun _ _ h => zu_off h) (fun ad => by rw [zfv_I ht, zu_same]; rfl) (fun j h => Or.inl h) kk
theorem znar_R {ty : FieldType} (h : zisR ty = true) (ad : Nat → Nat) (r : Option Nat) : narrow ty (zc ad (zrf r)) = zc ad (zrf r) ∧ fits ty (zc ad (zrf r)) = true := by
  cases ty <;> first | (cases r <;> exact ⟨rfl, rfl⟩) | cases h
theorem z_putR {c k idx o : Nat} {r : Option Nat} (hd : decode M.2.1 pc = .ok (.putfield idx, 3)) (hn : pc + 3 = n) (hc : zOk c) (hf : zFld M.1 idx c k) (hfin : (∃ q : vw_C, zCl[c]? = some q ∧ (q.2.1 k).2.2.2 = false) ∨ (M.2.2.2.2.1 = "<init>" ∧ ∃ q : vw_C, zCl[c]? = some q ∧ (q.2.1 k).2.2.2 = true ∧ (q.2.1 k).1 = M.1)) (ht : zisR (zTy c k) = true) {n0 : Nat} (hk : K o = some (c, n0)) (ho : zNC ≤ o)
    (kk : zW l G M fr lo mc ms n lv st K (zu F o k r) I L Q) : zW l G M fr lo mc ms pc lv (zrf r :: .ref o :: st) K F I L Q := by
  refine z_put hd hn hc hf hfin hk ho (fun ad => (znar_R ht ad r).1) (fun ad => (znar_R ht ad r).2) (fun _ _ h => zu_off h) (fun _ _ _ => rfl) (fun ad => by rw [zfv_R ht, zu_same, zc_rf]) (fun j h => ?_) kk
  rw [zu_same] at h
  exact Or.inr (by rw [h]; rfl)
theorem zIn {cell : Cell} {i : Int32} {n : Nat} (h : vp_in i n) (hs : n ≤ cell.slots.size) : ¬ (i < 0 ∨ cell.slots.size ≤ i.toNatClampNeg) := fun q => h (q.imp id fun z => Nat.le_trans hs z)
theorem zIn_lt {i : Int32} {n : Nat} (h : vp_in i n) : i.toNatClampNeg < n := Nat.not_le.mp fun q => h (Or.inr q)
theorem z_iald {o n0 : Nat} {i : Int32} (hd : decode M.2.1 pc = .ok (.iaload, 1)) (hn : pc + 1 = n) (hk : K o = some (64 + 0, n0)) (hin : vp_in i n0) (kk : zW l G M fr lo mc ms n lv (.int (I o i.toNatClampNeg) :: st) K F I L Q) : zW l G M fr lo mc ms pc lv (.int i :: .ref o :: st) K F I L Q := by
  intro p e R s m args below meth c9 H locs cells slots ls ad ad0 K0 hc9 hR hP hE hw hl
  subst hn
  have hx := hc9.1; have hb := hc9.2.1
  obtain ⟨cell, z1, z2, z3, z4, z5, z6⟩ := hP.arr 0 (by decide) hk
  exact W.iald hx hb z1 z2 z3 (zIn hin z4) (z6 _ (zIn_lt hin)) rfl rfl hd (kk p e R s m args below meth c9 H locs cells slots ls ad ad0 K0 hc9 hR hP hE ⟨hw.1, trivial, hw.2.2.2⟩ hl)
theorem z_bald {o n0 : Nat} {i : Int32} (hd : decode M.2.1 pc = .ok (.baload, 1)) (hn : pc + 1 = n) (hk : K o = some (64 + 1, n0)) (hin : vp_in i n0) (kk : zW l G M fr lo mc ms n lv (.int (I o i.toNatClampNeg) :: st) K F I L Q) : zW l G M fr lo mc ms pc lv (.int i :: .ref o :: st) K F I L Q := by
  intro p e R s m args below meth c9 H locs cells slots ls ad ad0 K0 hc9 hR hP hE hw hl
  subst hn
  have hx := hc9.1; have hb := hc9.2.1
  obtain ⟨cell, z1, z2, z3, z4, z5, z6⟩ := hP.arr 1 (by decide) hk
  exact W.bald hx hb z1 z2 z3 (zIn hin z4) (z6 _ (zIn_lt hin)) rfl rfl hd (kk p e R s m args below meth c9 H locs cells slots ls ad ad0 K0 hc9 hR hP hE ⟨hw.1, trivial, hw.2.2.2⟩ hl)
theorem z_zald {o n0 : Nat} {i : Int32} (hd : decode M.2.1 pc = .ok (.baload, 1)) (hn : pc + 1 = n) (hk : K o = some (64 + 2, n0)) (hin : vp_in i n0) (kk : zW l G M fr lo mc ms n lv (.int (I o i.toNatClampNeg) :: st) K F I L Q) : zW l G M fr lo mc ms pc lv (.int i :: .ref o :: st) K F I L Q := by
  intro p e R s m args below meth c9 H locs cells slots ls ad ad0 K0 hc9 hR hP hE hw hl
  subst hn
  have hx := hc9.1; have hb := hc9.2.1
  obtain ⟨cell, z1, z2, z3, z4, z5, z6⟩ := hP.arr 2 (by decide) hk
  exact W.zald hx hb z1 z2 z3 (zIn hin z4) (z6 _ (zIn_lt hin)) rfl rfl hd (kk p e R s m args below meth c9 H locs cells slots ls ad ad0 K0 hc9 hR hP hE ⟨hw.1, trivial, hw.2.2.2⟩ hl)
theorem z_lald {o n0 : Nat} {i : Int32} (hd : decode M.2.1 pc = .ok (.laload, 1)) (hn : pc + 1 = n) (hk : K o = some (64 + 3, n0)) (hin : vp_in i n0) (kk : zW l G M fr lo mc ms n lv (.long (L o i.toNatClampNeg) :: st) K F I L Q) : zW l G M fr lo mc ms pc lv (.int i :: .ref o :: st) K F I L Q := by
  intro p e R s m args below meth c9 H locs cells slots ls ad ad0 K0 hc9 hR hP hE hw hl
  subst hn
  have hx := hc9.1; have hb := hc9.2.1
  obtain ⟨cell, z1, z2, z3, z4, z5, z6⟩ := hP.arr 3 (by decide) hk
  exact W.lald hx hb z1 z2 z3 (zIn hin z4) (z6 _ (zIn_lt hin)) rfl rfl hd (kk p e R s m args below meth c9 H locs cells slots ls ad ad0 K0 hc9 hR hP hE ⟨hw.1, trivial, hw.2.2.2⟩ hl)
theorem z_aald4 {o n0 : Nat} {i : Int32} {r : Option Nat} (hd : decode M.2.1 pc = .ok (.aaload, 1)) (hn : pc + 1 = n) (hk : K o = some (64 + 4, n0)) (hin : vp_in i n0) (hF : F o i.toNatClampNeg = r) (kk : zW l G M fr lo mc ms n lv (zrf r :: st) K F I L Q) : zW l G M fr lo mc ms pc lv (.int i :: .ref o :: st) K F I L Q := by
  intro p e R s m args below meth c9 H locs cells slots ls ad ad0 K0 hc9 hR hP hE hw hl
  subst hn
  have hx := hc9.1; have hb := hc9.2.1
  subst hF
  obtain ⟨cell, z1, z2, z3, z4, z5, z6⟩ := hP.arr 4 (by decide) hk
  refine W.aald hx hb z1 z2 rfl z3 (zIn hin z4) (z6 _ (zIn_lt hin)) rfl rfl hd ?_
  have K9 := kk p e R s m args below meth c9 H locs cells slots ls ad ad0 K0 hc9 hR hP hE ⟨hw.1, (by
    cases hr : F o i.toNatClampNeg with
    | none => trivial
    | some j => exact hP.2.2.1 o _ j (by rw [hk]; exact fun g => by cases g) hr), hw.2.2.2⟩ hl
  rw [List.map_cons, zc_rf] at K9
  exact K9
theorem z_aald5 {o n0 : Nat} {i : Int32} {r : Option Nat} (hd : decode M.2.1 pc = .ok (.aaload, 1)) (hn : pc + 1 = n) (hk : K o = some (64 + 5, n0)) (hin : vp_in i n0) (hF : F o i.toNatClampNeg = r) (kk : zW l G M fr lo mc ms n lv (zrf r :: st) K F I L Q) : zW l G M fr lo mc ms pc lv (.int i :: .ref o :: st) K F I L Q := by
  intro p e R s m args below meth c9 H locs cells slots ls ad ad0 K0 hc9 hR hP hE hw hl
  subst hn
  have hx := hc9.1; have hb := hc9.2.1
  subst hF
  obtain ⟨cell, z1, z2, z3, z4, z5, z6⟩ := hP.arr 5 (by decide) hk
  refine W.aald hx hb z1 z2 rfl z3 (zIn hin z4) (z6 _ (zIn_lt hin)) rfl rfl hd ?_
  have K9 := kk p e R s m args below meth c9 H locs cells slots ls ad ad0 K0 hc9 hR hP hE ⟨hw.1, (by
    cases hr : F o i.toNatClampNeg with
    | none => trivial
    | some j => exact hP.2.2.1 o _ j (by rw [hk]; exact fun g => by cases g) hr), hw.2.2.2⟩ hl
  rw [List.map_cons, zc_rf] at K9
  exact K9
theorem z_aald6 {o n0 : Nat} {i : Int32} {r : Option Nat} (hd : decode M.2.1 pc = .ok (.aaload, 1)) (hn : pc + 1 = n) (hk : K o = some (64 + 6, n0)) (hin : vp_in i n0) (hF : F o i.toNatClampNeg = r) (kk : zW l G M fr lo mc ms n lv (zrf r :: st) K F I L Q) : zW l G M fr lo mc ms pc lv (.int i :: .ref o :: st) K F I L Q := by
  intro p e R s m args below meth c9 H locs cells slots ls ad ad0 K0 hc9 hR hP hE hw hl
  subst hn
  have hx := hc9.1; have hb := hc9.2.1
  subst hF
  obtain ⟨cell, z1, z2, z3, z4, z5, z6⟩ := hP.arr 6 (by decide) hk
  refine W.aald hx hb z1 z2 rfl z3 (zIn hin z4) (z6 _ (zIn_lt hin)) rfl rfl hd ?_
  have K9 := kk p e R s m args below meth c9 H locs cells slots ls ad ad0 K0 hc9 hR hP hE ⟨hw.1, (by
    cases hr : F o i.toNatClampNeg with
    | none => trivial
    | some j => exact hP.2.2.1 o _ j (by rw [hk]; exact fun g => by cases g) hr), hw.2.2.2⟩ hl
  rw [List.map_cons, zc_rf] at K9
  exact K9
theorem z_aald7 {o n0 : Nat} {i : Int32} {r : Option Nat} (hd : decode M.2.1 pc = .ok (.aaload, 1)) (hn : pc + 1 = n) (hk : K o = some (64 + 7, n0)) (hin : vp_in i n0) (hF : F o i.toNatClampNeg = r) (kk : zW l G M fr lo mc ms n lv (zrf r :: st) K F I L Q) : zW l G M fr lo mc ms pc lv (.int i :: .ref o :: st) K F I L Q := by
  intro p e R s m args below meth c9 H locs cells slots ls ad ad0 K0 hc9 hR hP hE hw hl
  subst hn
  have hx := hc9.1; have hb := hc9.2.1
  subst hF
  obtain ⟨cell, z1, z2, z3, z4, z5, z6⟩ := hP.arr 7 (by decide) hk
  refine W.aald hx hb z1 z2 rfl z3 (zIn hin z4) (z6 _ (zIn_lt hin)) rfl rfl hd ?_
  have K9 := kk p e R s m args below meth c9 H locs cells slots ls ad ad0 K0 hc9 hR hP hE ⟨hw.1, (by
    cases hr : F o i.toNatClampNeg with
    | none => trivial
    | some j => exact hP.2.2.1 o _ j (by rw [hk]; exact fun g => by cases g) hr), hw.2.2.2⟩ hl
  rw [List.map_cons, zc_rf] at K9
  exact K9
theorem z_alen {o n0 : Nat} (t : Nat) (ht : t < 8) (hd : decode M.2.1 pc = .ok (.arraylength, 1)) (hn : pc + 1 = n) (hk : K o = some (64 + t, n0)) (kk : zW l G M fr lo mc ms n lv (.int (Int32.ofNat n0) :: st) K F I L Q) : zW l G M fr lo mc ms pc lv (.ref o :: st) K F I L Q := by
  intro p e R s m args below meth c9 H locs cells slots ls ad ad0 K0 hc9 hR hP hE hw hl
  subst hn
  have hx := hc9.1; have hb := hc9.2.1
  obtain ⟨cell, z1, z2, z3, z4, z5, z6⟩ := hP.arr t ht hk
  exact W.alen hx hb z1 z2 z5 rfl rfl hd (kk p e R s m args below meth c9 H locs cells slots ls ad ad0 K0 hc9 hR hP hE ⟨hw.1, trivial, hw.2.2⟩ hl)
/-- the element i of the array o becomes x -/
theorem zRep.aput {ad : Nat → Nat} {F' : zFd} {I' : zId} {L' : zLd} {s : State} {H H' : Heap} {locs l2 : List Loc} (hP : zRep G ad K F I L s H locs) {o n0 t i : Nat} {x : Value} (ht : t < 7) (hk : K o = some (64 + t, n0)) (ho : zNC ≤ o)
    (e : H'[ad o]? = some ((arrV (G.1.2.2 t) n0 (fun j => zel ad F I L t o j)).setSlot i x)) (hz : H'.size = H.size) (hq : ∀ q : Nat, q ≠ ad o → H'[q]? = H[q]?)
    (hF : ∀ a b, ¬ (a = o ∧ b = i) → F' a b = F a b) (hI : ∀ a b, ¬ (a = o ∧ b = i) → I' a b = I a b) (hL : ∀ a b, ¬ (a = o ∧ b = i) → L' a b = L a b) (hv : zel ad F' I' L' t o i = x) (hwF : ∀ j, F' o i = some j → K j ≠ none) (hl : ∀ z ∈ l2, z.base = ad o) : zRep G ad K F' I' L' s H' (locs ++ l2) := by
  have hKn : K o ≠ none := by rw [hk]; exact fun g => by cases g
  refine hP.write ho hKn hz hq (fun a ha => ⟨funext fun b => hF a b fun z => ha z.1, funext fun b => hI a b fun z => ha z.1, funext fun b => hL a b fun z => ha z.1⟩) ?_ (fun b j hj => ?_) hl
  · intro c' n' hc'
    cases Option.some.inj (hk.symm.trans hc')
    refine Or.inr ⟨t, rfl, ht, ?_⟩
    rw [e, arrV_store]
    refine congrArg (fun f => some (arrV _ _ f)) (funext fun j => ?_)
    by_cases q : j = i
    · subst q; simp only [updV, if_true]; exact hv.symm
    · simp only [updV, if_neg q]
      exact (zel_eq (by rw [hF o j fun z => q z.2]) (hI o j fun z => q z.2) (hL o j fun z => q z.2)).symm
  · by_cases q : b = i
    · subst q; exact hwF j hj
    · rw [hF o b fun z => q z.2] at hj
      exact hP.2.2.1 o b j hKn hj
/-- an array that may be written, as it lies -/
theorem zRep.arrw {ad : Nat → Nat} {s : State} {H : Heap} {locs : List Loc} (hP : zRep G ad K F I L s H locs) {o n0 t : Nat} (ht : t < 7) (hk : K o = some (64 + t, n0)) (ho : zNC ≤ o) : H[ad o]? = some (arrV (G.1.2.2 t) n0 (fun j => zel ad F I L t o j)) ∧ (zTys G.1)[t]? = some (G.1.2.2 t, zAr t) ∧ s.isArrayOf (arrV (G.1.2.2 t) n0 (fun j => zel ad F I L t o j)) (zAr t) := by
  have h0 : (zTys G.1)[t]? = some (G.1.2.2 t, zAr t) := by
    match t, ht with
    | 0, _ => rfl
    | 1, _ => rfl
    | 2, _ => rfl
    | 3, _ => rfl
    | 4, _ => rfl
    | 5, _ => rfl
    | 6, _ => rfl
  rcases (hP.ok ho hk).1 _ n0 hk with ⟨g, -⟩ | ⟨t', a, a2, b⟩
  · omega
  · have : t' = t := by omega
    subst this
    exact ⟨b, h0, (hP.2.2.2.2.2.1.2 t' _ h0).1 n0 _⟩
theorem z_iast {o n0 : Nat} {i : Int32} {x : Int32} (hd : decode M.2.1 pc = .ok (.iastore, 1)) (hn : pc + 1 = n) (hk : K o = some (64 + 0, n0)) (ho : zNC ≤ o) (hin : vp_in i n0) (kk : zW l G M fr lo mc ms n lv st K F (zu I o i.toNatClampNeg x) L Q) : zW l G M fr lo mc ms pc lv (.int x :: .int i :: .ref o :: st) K F I L Q := by
  intro p e R s m args below meth c9 H locs cells slots ls ad ad0 K0 hc9 hR hP hE hw hl
  subst hn
  have hx := hc9.1; have hb := hc9.2.1
  obtain ⟨z1, -, z2⟩ := hP.arrw (by decide) hk ho
  refine W.iast hx hb z1 z2 (fun q => by cases q) (by rw [arrV_size]; exact hin) rfl rfl hd fun H1 e9 z9 oq => ?_
  exact kk p e R s m args below meth c9 H1 _ cells slots ls ad ad0 K0 hc9 hR (hP.aput (by decide) hk ho e9 z9 oq (fun _ _ _ => rfl) (fun _ _ h => zu_off h) (fun _ _ _ => rfl) (by show Value.int (zu I o _ x o _) = _; rw [zu_same]) (fun j hj => hP.2.2.1 o _ j (by rw [hk]; exact fun g => by cases g) hj) (fun z hz => by rw [List.mem_singleton.mp hz])) hE ⟨hw.1, hw.2.2.2.2⟩ hl
theorem z_bast {o n0 : Nat} {i : Int32} {x : Int32} (hd : decode M.2.1 pc = .ok (.bastore, 1)) (hn : pc + 1 = n) (hk : K o = some (64 + 1, n0)) (ho : zNC ≤ o) (hin : vp_in i n0) (kk : zW l G M fr lo mc ms n lv st K F (zu I o i.toNatClampNeg (vp_nar .byte x)) L Q) : zW l G M fr lo mc ms pc lv (.int x :: .int i :: .ref o :: st) K F I L Q := by
  intro p e R s m args below meth c9 H locs cells slots ls ad ad0 K0 hc9 hR hP hE hw hl
  subst hn
  have hx := hc9.1; have hb := hc9.2.1
  obtain ⟨z1, -, z2⟩ := hP.arrw (by decide) hk ho
  refine W.bast hx hb z1 z2 (fun q => by cases q) (by rw [arrV_size]; exact hin) rfl rfl hd fun H1 e9 z9 oq => ?_
  exact kk p e R s m args below meth c9 H1 _ cells slots ls ad ad0 K0 hc9 hR (hP.aput (by decide) hk ho e9 z9 oq (fun _ _ _ => rfl) (fun _ _ h => zu_off h) (fun _ _ _ => rfl) (by show Value.int (zu I o _ _ o _) = _; rw [zu_same]; rfl) (fun j hj => hP.2.2.1 o _ j (by rw [hk]; exact fun g => by cases g) hj) (fun z hz => by rw [List.mem_singleton.mp hz])) hE ⟨hw.1, hw.2.2.2.2⟩ hl
theorem z_zast {o n0 : Nat} {i : Int32} {x : Int32} (hd : decode M.2.1 pc = .ok (.bastore, 1)) (hn : pc + 1 = n) (hk : K o = some (64 + 2, n0)) (ho : zNC ≤ o) (hin : vp_in i n0) (kk : zW l G M fr lo mc ms n lv st K F (zu I o i.toNatClampNeg (vp_nar .boolean x)) L Q) : zW l G M fr lo mc ms pc lv (.int x :: .int i :: .ref o :: st) K F I L Q := by
  intro p e R s m args below meth c9 H locs cells slots ls ad ad0 K0 hc9 hR hP hE hw hl
  subst hn
  have hx := hc9.1; have hb := hc9.2.1
  obtain ⟨z1, -, z2⟩ := hP.arrw (by decide) hk ho
  refine W.zast hx hb z1 z2 (fun q => by cases q) (by rw [arrV_size]; exact hin) rfl rfl hd fun H1 e9 z9 oq => ?_
  exact kk p e R s m args below meth c9 H1 _ cells slots ls ad ad0 K0 hc9 hR (hP.aput (by decide) hk ho e9 z9 oq (fun _ _ _ => rfl) (fun _ _ h => zu_off h) (fun _ _ _ => rfl) (by show Value.int (zu I o _ _ o _) = _; rw [zu_same]; rfl) (fun j hj => hP.2.2.1 o _ j (by rw [hk]; exact fun g => by cases g) hj) (fun z hz => by rw [List.mem_singleton.mp hz])) hE ⟨hw.1, hw.2.2.2.2⟩ hl
theorem z_last {o n0 : Nat} {i : Int32} {x : Int64} (hd : decode M.2.1 pc = .ok (.lastore, 1)) (hn : pc + 1 = n) (hk : K o = some (64 + 3, n0)) (ho : zNC ≤ o) (hin : vp_in i n0) (kk : zW l G M fr lo mc ms n lv st K F I (zu L o i.toNatClampNeg x) Q) : zW l G M fr lo mc ms pc lv (.long x :: .int i :: .ref o :: st) K F I L Q := by
  intro p e R s m args below meth c9 H locs cells slots ls ad ad0 K0 hc9 hR hP hE hw hl
  subst hn
  have hx := hc9.1; have hb := hc9.2.1
  obtain ⟨z1, -, z2⟩ := hP.arrw (by decide) hk ho
  refine W.last hx hb z1 z2 (fun q => by cases q) (by rw [arrV_size]; exact hin) rfl rfl hd fun H1 e9 z9 oq => ?_
  exact kk p e R s m args below meth c9 H1 _ cells slots ls ad ad0 K0 hc9 hR (hP.aput (by decide) hk ho e9 z9 oq (fun _ _ _ => rfl) (fun _ _ _ => rfl) (fun _ _ h => zu_off h) (by show Value.long (zu L o _ x o _) = _; rw [zu_same]) (fun j hj => hP.2.2.1 o _ j (by rw [hk]; exact fun g => by cases g) hj) (fun z hz => by rw [List.mem_singleton.mp hz])) hE ⟨hw.1, hw.2.2.2.2⟩ hl
/-- an object is made: the number o is told of it -/
theorem z_new {c idx o : Nat} {C : String} (hd : decode M.2.1 pc = .ok (.new idx, 3)) (hn : pc + 3 = n) (hc : zOk c) (hC : ∃ q : vw_C, zCl[c]? = some q ∧ q.1 = C ∧ Cond.instantiable C q.2.2 ∈ lw_all) (hq1 : Cond.classLink M.1 idx C ∈ lw_all) (hq2 : Cond.initialized C ∈ lw_all) (ho : zNC ≤ o) (hK : K o = none) {mc1 ms1 : Nat} (hmc : mc1 + 1 ≤ mc) (hms : ms1 + zN c ≤ ms)
    (kk : zW l G M fr lo mc1 ms1 n lv (.ref o :: st) (zu1 K o (some (c, 0))) (zu1 F o (fun _ => none)) (zu1 I o (fun _ => 0)) (zu1 L o (fun _ => 0)) Q) : zW l G M fr lo mc ms pc lv st K F I L Q := by
  intro p e R s m args below meth c9 H locs cells slots ls ad ad0 K0 hc9 hR hP hE hw hl
  subst hn
  obtain ⟨q, g1, glt, g3, g4, g5, g6, g7⟩ := hc
  obtain ⟨q', z1, rfl, z3⟩ := hC
  cases Option.some.inj (g1.symm.trans z1)
  have hx := hc9.1; have hb := hc9.2.1; have hown := hc9.2.2.2.1; have hts := hc9.2.2.2.2.1
  have hKn := hP.2.2.2.2.2.1.1 c q g1
  rw [g3] at hms
  refine W.newcK (n := q.2.2) hx hb hown (hts _ hq1) (hts _ z3) (hts _ hq2) rfl hd (by omega) (by omega) hKn.2.1 rfl fun H1 kC hkC e1 z1 o1 => ?_
  have hag : ∀ a, K a ≠ none → zu1 ad o H.size a = ad a := fun a ha => zu1_off fun e => ha (by rw [e]; exact hK)
  have hmo : ∀ a, K a ≠ none → zu1 K o (some (c, 0)) a ≠ none := fun a ha => by rw [zu1_off fun e => ha (by rw [e]; exact hK)]; exact ha
  have hP' : zRep G (zu1 ad o H.size) (zu1 K o (some (c, 0))) (zu1 F o (fun _ => none)) (zu1 I o (fun _ => 0)) (zu1 L o (fun _ => 0)) s H1 locs := by
    refine hP.push ho hK (by omega) o1 (fun a ha => ⟨zu1_off ha, zu1_off ha, zu1_off ha⟩) ?_ (fun k j hj => ?_)
    · intro c' n' hc'
      rw [zu1_same] at hc'
      cases Option.some.inj hc'
      refine Or.inl ⟨⟨glt, fun _ => ⟨_, by rw [zu1_same]; exact e1, rfl, rfl⟩⟩, ?_⟩
      rw [zu1_same, g3]
      refine (u_born (zTy c) hts g4 hKn hkC e1 g5).to fun k hk => ?_
      have hz := g7 k hk
      simp only [zfv, zu1_same]
      cases hty : zTy c k <;> first | rfl | (rw [hty] at hz; cases hz)
    · rw [zu1_same] at hj; cases hj
  have K9 := kk p e R s m args below meth c9 H1 locs (cells + 1) (slots + q.2.2) ls (zu1 ad o H.size) ad0 K0 hc9 ⟨hR.1, hR.2.1, by omega, by omega⟩ hP' (hE.push hK) ⟨fun z hz => zwv_mono hmo (hw.1 z hz), (show zu1 K o _ o ≠ none by rw [zu1_same]; exact fun g => nomatch g), zws_mono hmo hw.2⟩ (by rw [zlv_ag hag hw.1]; exact hl)
  rw [List.map_cons, zst_ag hag hw.2] at K9
  have e9 : zc (zu1 ad o H.size) (.ref o) = .ref H.size := by show Value.ref (zu1 ad o H.size o) = _; rw [zu1_same]
  rw [e9] at K9
  exact K9
/-- an array of numbers is made -/
theorem z_newa {o t N : Nat} {i : Int32} (atype : ArrayType) (hd : decode M.2.1 pc = .ok (.newarray atype, 2)) (hn : pc + 2 = n) (hta : newarray.typeOf atype = zAr t) (ht : t < 4) (hq1 : Cond.arrayClass (newarray.typeOf atype) ∈ lw_all) (ho : zNC ≤ o) (hK : K o = none) (hi : ¬ i < 0) (hN : i.toNatClampNeg = N) (hby : N * componentBytes (zAr t) ≤ 536870912) {mc1 ms1 : Nat} (hmc : mc1 + 1 ≤ mc) (hms : ms1 + N ≤ ms)
    (kk : zW l G M fr lo mc1 ms1 n lv (.ref o :: st) (zu1 K o (some (64 + t, N))) (zu1 F o (fun _ => none)) (zu1 I o (fun _ => 0)) (zu1 L o (fun _ => 0)) Q) : zW l G M fr lo mc ms pc lv (.int i :: st) K F I L Q := by
  intro p e R s m args below meth c9 H locs cells slots ls ad ad0 K0 hc9 hR hP hE hw hl
  subst hn
  have hx := hc9.1; have hb := hc9.2.1; have hown := hc9.2.2.2.1; have hts := hc9.2.2.2.2.1
  refine va_newaK hx hb (hts _ hq1) rfl hd rfl hi hN (by rw [hta]; exact hby) (by omega) (by omega) rfl fun H1 cA e1 z1 o1 hAr hNm => ?_
  have hcA : cA = G.1.2.2 t := by
    rw [hta] at hNm
    have h6 := hP.2.2.2.2.2.1.2
    match t, ht with
    | 0, _ => exact Option.some.inj (hNm.symm.trans (h6 0 _ rfl).2)
    | 1, _ => exact Option.some.inj (hNm.symm.trans (h6 1 _ rfl).2)
    | 2, _ => exact Option.some.inj (hNm.symm.trans (h6 2 _ rfl).2)
    | 3, _ => exact Option.some.inj (hNm.symm.trans (h6 3 _ rfl).2)
  have hag : ∀ a, K a ≠ none → zu1 ad o H.size a = ad a := fun a ha => zu1_off fun e => ha (by rw [e]; exact hK)
  have hmo : ∀ a, K a ≠ none → zu1 K o (some (64 + t, N)) a ≠ none := fun a ha => by rw [zu1_off fun e => ha (by rw [e]; exact hK)]; exact ha
  have hP' : zRep G (zu1 ad o H.size) (zu1 K o (some (64 + t, N))) (zu1 F o (fun _ => none)) (zu1 I o (fun _ => 0)) (zu1 L o (fun _ => 0)) s H1 locs := by
    refine hP.push ho hK (by omega) o1 (fun a ha => ⟨zu1_off ha, zu1_off ha, zu1_off ha⟩) ?_ (fun k j hj => ?_)
    · intro c' n' hc'
      rw [zu1_same] at hc'
      cases Option.some.inj hc'
      refine Or.inr ⟨t, rfl, by omega, ?_⟩
      rw [zu1_same, e1, hcA, hta]
      refine congrArg (fun f => some (arrV _ _ f)) (funext fun j => ?_)
      match t, ht with
      | 0, _ => simp only [zel, zu1_same]; rfl
      | 1, _ => simp only [zel, zu1_same]; rfl
      | 2, _ => simp only [zel, zu1_same]; rfl
      | 3, _ => simp only [zel, zu1_same]; rfl
    · rw [zu1_same] at hj; cases hj
  have K9 := kk p e R s m args below meth c9 H1 locs (cells + 1) (slots + N) ls (zu1 ad o H.size) ad0 K0 hc9 ⟨hR.1, hR.2.1, by omega, by omega⟩ hP' (hE.push hK) ⟨fun z hz => zwv_mono hmo (hw.1 z hz), (show zu1 K o _ o ≠ none by rw [zu1_same]; exact fun g => nomatch g), zws_mono hmo hw.2.2⟩ (by rw [zlv_ag hag hw.1]; exact hl)
  rw [List.map_cons, zst_ag hag hw.2.2] at K9
  have e9 : zc (zu1 ad o H.size) (.ref o) = .ref H.size := by show Value.ref (zu1 ad o H.size o) = _; rw [zu1_same]
  rw [e9] at K9
  exact K9
/-- an array of Strings or Objects is made -/
theorem z_anew {o t idx N : Nat} {i : Int32} {C : String} (hd : decode M.2.1 pc = .ok (.anewarray idx, 3)) (hn : pc + 3 = n) (hta : (t = 4 ∧ C = "java/lang/Object") ∨ (t = 5 ∧ C = "java/lang/String")) (hq1 : Cond.classLink M.1 idx C ∈ lw_all) (ho : zNC ≤ o) (hK : K o = none) (hi : ¬ i < 0) (hN : i.toNatClampNeg = N) (hby : N * 4 ≤ 536870912) {mc1 ms1 : Nat} (hmc : mc1 + 1 ≤ mc) (hms : ms1 + N ≤ ms)
    (kk : zW l G M fr lo mc1 ms1 n lv (.ref o :: st) (zu1 K o (some (64 + t, N))) (zu1 F o (fun _ => none)) (zu1 I o (fun _ => 0)) (zu1 L o (fun _ => 0)) Q) : zW l G M fr lo mc ms pc lv (.int i :: st) K F I L Q := by
  intro p e R s m args below meth c9 H locs cells slots ls ad ad0 K0 hc9 hR hP hE hw hl
  subst hn
  subst hN
  have hx := hc9.1; have hb := hc9.2.1; have hown := hc9.2.2.2.1; have hts := hc9.2.2.2.2.1
  have hao : va_AO C s := by
    rcases hta with ⟨-, rfl⟩ | ⟨-, rfl⟩
    · exact hP.2.2.2.2.2.2.2.2.1
    · exact hP.2.2.2.2.2.2.2.2.2.1
  refine W.anew hx hb hown (hts _ hq1) (va_AO.use hao) rfl hd rfl hi hby (by omega) (by omega) fun cA kA comp f1 f2 f3 f4 => ?_
  have hcA : cA = G.1.2.2 t := by
    have h6 := hP.2.2.2.2.2.1.2
    rcases hta with ⟨rfl, rfl⟩ | ⟨rfl, rfl⟩
    · obtain ⟨_, _, _, _, _, h⟩ := (h6 4 _ rfl).2
      exact Option.some.inj (f1.symm.trans h)
    · obtain ⟨_, _, _, _, _, h⟩ := (h6 5 _ rfl).2
      exact Option.some.inj (f1.symm.trans h)
  generalize hH1 : H.push ({ cls := cA, slots := Array.replicate i.toNatClampNeg .null, vm := .none } : Cell) = H1
  have z1 : H1.size = H.size + 1 := by rw [← hH1, Array.size_push]
  have e1 : H1[H.size]? = some (arrV cA i.toNatClampNeg (fun _ => .null)) := by rw [← hH1, Array.getElem?_push_size, ← arrV_new]
  have o1 : ∀ q : Nat, q < H.size → H1[q]? = H[q]? := fun q hq => by rw [← hH1, Array.getElem?_push, if_neg (Nat.ne_of_lt hq)]
  have hag : ∀ a, K a ≠ none → zu1 ad o H.size a = ad a := fun a ha => zu1_off fun e => ha (by rw [e]; exact hK)
  have hmo : ∀ a, K a ≠ none → zu1 K o (some (64 + t, i.toNatClampNeg)) a ≠ none := fun a ha => by rw [zu1_off fun e => ha (by rw [e]; exact hK)]; exact ha
  have hP' : zRep G (zu1 ad o H.size) (zu1 K o (some (64 + t, i.toNatClampNeg))) (zu1 F o (fun _ => none)) (zu1 I o (fun _ => 0)) (zu1 L o (fun _ => 0)) s H1 locs := by
    refine hP.push ho hK (by omega) o1 (fun a ha => ⟨zu1_off ha, zu1_off ha, zu1_off ha⟩) ?_ (fun k j hj => ?_)
    · intro c' n' hc'
      rw [zu1_same] at hc'
      cases Option.some.inj hc'
      refine Or.inr ⟨t, rfl, by omega, ?_⟩
      rw [zu1_same, e1, hcA]
      refine congrArg (fun f => some (arrV _ _ f)) (funext fun j => ?_)
      rcases hta with ⟨rfl, -⟩ | ⟨rfl, -⟩ <;> (simp only [zel, zu1_same]; rfl)
    · rw [zu1_same] at hj; cases hj
  have K9 := kk p e R s m args below meth c9 H1 locs (cells + 1) (slots + i.toNatClampNeg) ls (zu1 ad o H.size) ad0 K0 hc9 ⟨hR.1, hR.2.1, by omega, by omega⟩ hP' (hE.push hK) ⟨fun z hz => zwv_mono hmo (hw.1 z hz), (show zu1 K o _ o ≠ none by rw [zu1_same]; exact fun g => nomatch g), zws_mono hmo hw.2.2⟩ (by rw [zlv_ag hag hw.1]; exact hl)
  rw [List.map_cons, zst_ag hag hw.2.2] at K9
  have e9 : zc (zu1 ad o H.size) (.ref o) = .ref H.size := by show Value.ref (zu1 ad o H.size o) = _; rw [zu1_same]
  rw [e9] at K9
  exact K9
end Z4
