/-! Z5: more rules: references into arrays, casts, copies, statics, strings, Math, ends -/
section Z5
variable {l : Launch} {G : zGt} {M : zM} {fr lo mc ms pc n : Nat} {lv lv' : List (Nat × Value)} {st : List Value} {K : zKd} {F : zFd} {I : zId} {L : zLd} {Q : zQt}
/-- an object of class number c, as a receiver -/
theorem zRep.obj {ad : Nat → Nat} {s : State} {H : Heap} {locs : List Loc} (h : zRep G ad K F I L s H locs) {o c n0 : Nat} {q : vw_C} (hk : K o = some (c, n0)) (hc : zCl[c]? = some q) : ∃ cell : Cell, H[ad o]? = some cell ∧ cell.vm.isStatics = false ∧ s.vm.findClass q.1 = some cell.cls := by
  have hlt := zCl_lt hc
  rcases Nat.lt_or_ge o zNC with ho | ho
  · obtain ⟨e1, e2, e3, e4⟩ := h.2.2.2.1 o ho
    obtain ⟨g1, g2⟩ := h.2.2.2.2.2.2.1.1 o ho c n0 (by rw [← e1]; exact hk)
    rcases g2 with ⟨a, q', b1, b2, b3⟩ | ⟨a, b⟩ | ⟨a, b, b2⟩ | ⟨t, a, a2, a3, b⟩
    · cases Option.some.inj (hc.symm.trans b1)
      obtain ⟨cell, z1, z2, z3, -⟩ := b2.kept h.2.2.2.2.1.2.1
      exact ⟨cell, by rw [e4]; exact z1, z2, z3⟩
    · omega
    · omega
    · omega
  · rcases (h.ok ho hk).1 c n0 hk with ⟨-, cell, q1, q2, q3, q4⟩ | ⟨t, a, -⟩
    · exact ⟨cell, q1, by rw [q3]; rfl, by rw [q2]; exact (h.2.2.2.2.2.1.1 c q hc).2.1⟩
    · omega
theorem zcast {s : State} {C E : String} (hnw : zNw s) (h : Cond.castable C E ∈ lw_tbl ∨ C = E) {comp c0 : ClassId} (h1 : s.vm.findClass E = some comp) (h2 : s.vm.findClass C = some c0) : s.vm.assignable c0 comp = true := by
  rcases h with h | rfl
  · exact vb_asgC (hnw.1 _ h rfl) comp c0 h1 h2
  · exact vb_asgS comp c0 h1 h2
/-- a reference to an object goes into an array of Objects or Strings -/
theorem z_aast {t o n0 j c n1 : Nat} {i : Int32} {q : vw_C} {E : String} (hd : decode M.2.1 pc = .ok (.aastore, 1)) (hn : pc + 1 = n) (hta : (t = 4 ∧ E = "java/lang/Object") ∨ (t = 5 ∧ E = "java/lang/String")) (hk : K o = some (64 + t, n0)) (ho : zNC ≤ o) (hj : K j = some (c, n1)) (hc : zCl[c]? = some q) (hcast : Cond.castable q.1 E ∈ lw_tbl ∨ q.1 = E) (hin : vp_in i n0)
    (kk : zW l G M fr lo mc ms n lv st K (zu F o i.toNatClampNeg (some j)) I L Q) : zW l G M fr lo mc ms pc lv (.ref j :: .int i :: .ref o :: st) K F I L Q := by
  intro p e R s m args below meth c9 H locs cells slots ls ad ad0 K0 hc9 hR hP hE hw hl
  subst hn
  have hx := hc9.1; have hb := hc9.2.1
  have ht : t < 7 := by omega
  obtain ⟨z1, z0, z2⟩ := hP.arrw ht hk ho
  obtain ⟨cell, g1, g2, g3⟩ := hP.obj hj hc
  have hAr : zAr t = .object E := by rcases hta with ⟨rfl, rfl⟩ | ⟨rfl, rfl⟩ <;> rfl
  have hRA := (hP.2.2.2.2.2.1.2 t _ z0).2
  rw [hAr] at hRA
  obtain ⟨kA, comp, k1, k2, k3, -⟩ := hRA
  obtain ⟨kE, hkE, -⟩ := Vm.findClass_spec k3
  obtain ⟨kC, hkC, -⟩ := Vm.findClass_spec g3
  refine W.aast hx hb z1 (fun q h => by cases h) (fun h => by cases h) k1 k2 rfl hkE ⟨fun h => hin (Or.inl h), by rw [arrV_size]; exact zIn_lt hin⟩ g1 (fun q h => by rw [h] at g2; cases g2) hkC (zcast hP.2.2.2.2.2.2.2 hcast k3 g3) rfl rfl hd fun H1 e9 z9 oq => ?_
  exact kk p e R s m args below meth c9 H1 _ cells slots ls ad ad0 K0 hc9 hR (hP.aput ht hk ho e9 z9 oq (fun _ _ h => zu_off h) (fun _ _ _ => rfl) (fun _ _ _ => rfl) (by rcases hta with ⟨rfl, -⟩ | ⟨rfl, -⟩ <;> (simp only [zel, zu_same]; rfl)) (fun j' hj' => by rw [zu_same] at hj'; cases hj'; rw [hj]; exact fun g => nomatch g) (fun z hz => by rw [List.mem_singleton.mp hz])) hE ⟨hw.1, hw.2.2.2.2⟩ hl
/-- null goes into an array of Objects or Strings -/
theorem z_aastN {t o n0 : Nat} {i : Int32} {E : String} (hd : decode M.2.1 pc = .ok (.aastore, 1)) (hn : pc + 1 = n) (hta : (t = 4 ∧ E = "java/lang/Object") ∨ (t = 5 ∧ E = "java/lang/String")) (hk : K o = some (64 + t, n0)) (ho : zNC ≤ o) (hin : vp_in i n0)
    (kk : zW l G M fr lo mc ms n lv st K (zu F o i.toNatClampNeg none) I L Q) : zW l G M fr lo mc ms pc lv (.null :: .int i :: .ref o :: st) K F I L Q := by
  intro p e R s m args below meth c9 H locs cells slots ls ad ad0 K0 hc9 hR hP hE hw hl
  subst hn
  have hx := hc9.1; have hb := hc9.2.1
  have ht : t < 7 := by omega
  obtain ⟨z1, z0, z2⟩ := hP.arrw ht hk ho
  have hAr : zAr t = .object E := by rcases hta with ⟨rfl, rfl⟩ | ⟨rfl, rfl⟩ <;> rfl
  rw [hAr] at z2
  refine va_WaastN hx hb z1 z2 (fun q => by cases q) (by rw [arrV_size]; exact hin) rfl rfl hd fun H1 e9 z9 oq => ?_
  exact kk p e R s m args below meth c9 H1 _ cells slots ls ad ad0 K0 hc9 hR (hP.aput ht hk ho e9 z9 oq (fun _ _ h => zu_off h) (fun _ _ _ => rfl) (fun _ _ _ => rfl) (by rcases hta with ⟨rfl, -⟩ | ⟨rfl, -⟩ <;> (simp only [zel, zu_same]; rfl)) (fun j' hj' => by rw [zu_same] at hj'; cases hj') (fun z hz => by rw [List.mem_singleton.mp hz])) hE ⟨hw.1, hw.2.2.2.2⟩ hl
/-- checkcast that goes well -/
theorem z_cast {o c n0 idx : Nat} {q : vw_C} {C : String} (hd : decode M.2.1 pc = .ok (.checkcast idx, 3)) (hn : pc + 3 = n) (hk : K o = some (c, n0)) (hc : zCl[c]? = some q) (hq1 : Cond.classLink M.1 idx C ∈ lw_all) (hq2 : Cond.castable q.1 C ∈ lw_tbl) (kk : zW l G M fr lo mc ms n lv (.ref o :: st) K F I L Q) : zW l G M fr lo mc ms pc lv (.ref o :: st) K F I L Q := by
  intro p e R s m args below meth c9 H locs cells slots ls ad ad0 K0 hc9 hR hP hE hw hl
  subst hn
  exact va_castY hc9.1 hc9.2.1 hc9.2.2.2.1 (hc9.2.2.2.2.1 _ hq1) (hP.2.2.2.2.2.2.2.1 _ hq2 rfl) (hP.obj hk hc) hd (kk p e R s m args below meth c9 H locs cells slots ls ad ad0 K0 hc9 hR hP hE hw hl)
/-- a static that is read -/
theorem z_gets {idx : Nat} {C nm d : String} {v : Value} (hd : decode M.2.1 pc = .ok (.getstatic idx, 3)) (hn : pc + 3 = n) (hz : (C, nm, d, v) ∈ zStat) (hq1 : Cond.fieldLink M.1 idx C nm d ∈ lw_all) (hv : ∀ j, v = .ref j → j < zNC ∧ K j ≠ none) (kk : zW l G M fr lo mc ms n lv (v :: st) K F I L Q) : zW l G M fr lo mc ms pc lv st K F I L Q := by
  intro p e R s m args below meth c9 H locs cells slots ls ad ad0 K0 hc9 hR hP hE hw hl
  subst hn
  have h0 := (hP.2.2.2.2.2.2.1.2.2.1 _ hz)
  obtain ⟨cf, kf, fi, f, a, cell, h1, h2, h3, h4, h5, h6, h7, h8⟩ := va_Z.kept h0 hP.2.2.2.2.1.2.1
  have hzc : zc G.2.2.1 v = zc ad v := by
    cases v with
    | ref j => exact congrArg Value.ref (hP.2.2.2.1 j (hv j rfl).1).2.2.2.symm
    | _ => rfl
  refine W.gets hc9.1 hc9.2.1 hc9.2.2.2.1 (hc9.2.2.2.2.1 _ hq1) h1 h2 h3 h4 h5 (fun e => by rw [e] at h6; cases h6) (h7.trans (congrArg some hzc)) rfl hd ?_
  exact kk p e R s m args below meth c9 H locs cells slots ls ad ad0 K0 hc9 hR hP hE ⟨hw.1, (by
    cases v with
    | ref j => exact (hv j rfl).2
    | _ => trivial), hw.2⟩ hl
/-- a String constant -/
theorem z_ldcS {idx j : Nat} {tx : String} (hd : decode M.2.1 pc = .ok (.ldc idx, 2)) (hn : pc + 2 = n) (hz : (M.1, idx, tx, j) ∈ zLit) (hj : j < zNC) (hK : K j ≠ none) (kk : zW l G M fr lo mc ms n lv (.ref j :: st) K F I L Q) : zW l G M fr lo mc ms pc lv st K F I L Q := by
  intro p e R s m args below meth c9 H locs cells slots ls ad ad0 K0 hc9 hR hP hE hw hl
  subst hn
  have h0 := (hP.2.2.2.2.2.2.1.2.2.2.1 _ hz)
  have e4 := (hP.2.2.2.1 j hj).2.2.2
  dsimp only at h0
  rw [← e4] at h0
  exact va_ldcS hc9.1 hc9.2.1 hc9.2.2.2.1 h0 hd (kk p e R s m args below meth c9 H locs cells slots ls ad ad0 K0 hc9 hR hP hE ⟨hw.1, hK, hw.2⟩ hl)
theorem zinj {ad : Nat → Nat} {s : State} {H : Heap} {locs : List Loc} (h : zRep G ad K F I L s H locs) {i j : Nat} (hi : K i ≠ none) (hj : K j ≠ none) (hz : zcq i j) (e : ad i = ad j) : i = j := by
  have hcA : ∀ a, a < zNC → zopq a = false → K a ≠ none → ad a < G.2.1.size := by
    intro a ha hop hk
    obtain ⟨e1, e2, e3, e4⟩ := h.2.2.2.1 a ha
    cases hc : K a with
    | none => exact absurd hc hk
    | some q => rw [e4]; exact (h.2.2.2.2.2.2.1.1 a ha q.1 q.2 (by rw [← e1]; exact hc)).1 hop
  have hA : ∀ a, zNC ≤ a → K a ≠ none → G.2.1.size ≤ ad a := fun a ha hk => (h.1 a ha hk).2
  rcases hz with ⟨g1, g2⟩ | ⟨g1, g2⟩ | ⟨g1, g2⟩ | g
  · rcases Nat.lt_or_ge j zNC with h2 | h2
    · have := hA i g1 hi
      have := hcA j h2 g2 hj
      omega
    · exact h.2.1 i j g1 h2 hi hj e
  · rcases Nat.lt_or_ge i zNC with h2 | h2
    · have := hA j g1 hj
      have := hcA i h2 g2 hi
      omega
    · exact h.2.1 i j h2 g1 hi hj e
  · have h1 : i < zNC := Nat.lt_trans g1 (by decide)
    have h2 : j < zNC := Nat.lt_trans g2 (by decide)
    have e4 := (h.2.2.2.1 i h1).2.2.2
    have f4 := (h.2.2.2.1 j h2).2.2.2
    exact h.2.2.2.2.2.2.1.2.2.2.2.1 i j g1 g2 (by rw [← e4, ← f4]; exact e)
  · exact g
theorem zacmp {ad : Nat → Nat} {s : State} {H : Heap} {locs : List Loc} (h : zRep G ad K F I L s H locs) {r1 r2 : Option Nat} (h1 : zwv K (zrf r1)) (h2 : zwv K (zrf r2)) (hz : ∀ i j, r1 = some i → r2 = some j → zcq i j) : r1.map ad = r2.map ad ↔ r1 = r2 := by
  constructor
  · intro e
    cases r1 with
    | none => cases r2 with
      | none => rfl
      | some j => cases e
    | some i => cases r2 with
      | none => cases e
      | some j => exact congrArg some (zinj h h1 h2 (hz i j rfl rfl) (Option.some.inj e))
  · intro e; rw [e]
theorem z_acmp_eq {r1 r2 : Option Nat} {off : Int} {t : Nat} (hd : decode M.2.1 pc = .ok (.if_acmp .eq off, 3)) (hn : pc + 3 = n) (ht : (pc : Int) + off = (t : Int)) (hz : ∀ i j, r1 = some i → r2 = some j → zcq i j) (kt : r1 = r2 → zW l G M fr lo mc ms t lv st K F I L Q) (kf : ¬ r1 = r2 → zW l G M fr lo mc ms n lv st K F I L Q) : zW l G M fr lo mc ms pc lv (zrf r2 :: zrf r1 :: st) K F I L Q := by
  intro p e R s m args below meth c9 H locs cells slots ls ad ad0 K0 hc9 hR hP hE hw hl
  subst hn
  have hi := zacmp hP hw.2.2.1 hw.2.1 hz
  rw [List.map_cons, List.map_cons, zc_rf, zc_rf]
  exact lv_acmp_eq hc9.1 hc9.2.1 hd ht (fun h => kt (hi.mp h) p e R s m args below meth c9 H locs cells slots ls ad ad0 K0 hc9 hR hP hE ⟨hw.1, hw.2.2.2⟩ hl) (fun h => kf (fun g => h (hi.mpr g)) p e R s m args below meth c9 H locs cells slots ls ad ad0 K0 hc9 hR hP hE ⟨hw.1, hw.2.2.2⟩ hl)
theorem z_acmp_ne {r1 r2 : Option Nat} {off : Int} {t : Nat} (hd : decode M.2.1 pc = .ok (.if_acmp .ne off, 3)) (hn : pc + 3 = n) (ht : (pc : Int) + off = (t : Int)) (hz : ∀ i j, r1 = some i → r2 = some j → zcq i j) (kt : ¬ r1 = r2 → zW l G M fr lo mc ms t lv st K F I L Q) (kf : r1 = r2 → zW l G M fr lo mc ms n lv st K F I L Q) : zW l G M fr lo mc ms pc lv (zrf r2 :: zrf r1 :: st) K F I L Q := by
  intro p e R s m args below meth c9 H locs cells slots ls ad ad0 K0 hc9 hR hP hE hw hl
  subst hn
  have hi := zacmp hP hw.2.2.1 hw.2.1 hz
  rw [List.map_cons, List.map_cons, zc_rf, zc_rf]
  exact lv_acmp_ne hc9.1 hc9.2.1 hd ht (fun h => kt (fun g => h (hi.mpr g)) p e R s m args below meth c9 H locs cells slots ls ad ad0 K0 hc9 hR hP hE ⟨hw.1, hw.2.2.2⟩ hl) (fun h => kf (hi.mp h) p e R s m args below meth c9 H locs cells slots ls ad ad0 K0 hc9 hR hP hE ⟨hw.1, hw.2.2.2⟩ hl)
def zmin (x y : Int32) : Int32 := if y < x then y else x
def zmax (x y : Int32) : Int32 := if x < y then y else x
theorem zcats (ad : Nat → Nat) (st : List Value) : ((st.map (zc ad)).map fun v => v.category).sum = (st.map fun v => v.category).sum := by
  rw [List.map_map]
  congr 1
  exact List.map_congr_left fun v _ => zc_cat ad v
theorem z_min {idx : Nat} {x y : Int32} (hd : decode M.2.1 pc = .ok (.invokestatic idx, 3)) (hn : pc + 3 = n) (hq1 : Cond.methodLink M.1 idx Lib.Math.min.name ∈ lw_all) (hq2 : Cond.static Lib.Math.min.name ∈ lw_all) (hq3 : Cond.initialized "java/lang/Math" ∈ lw_all) (hq4 : Cond.code Lib.Math.min.name Lib.Math.min.code 2 (some .int) ∈ lw_all) (hfr : 1 ≤ fr) (hlo : (st.map fun v => v.category).sum + 13 ≤ lo)
    (kk : zW l G M fr lo mc ms n lv (.int (zmin x y) :: st) K F I L Q) : zW l G M fr lo mc ms pc lv (.int y :: .int x :: st) K F I L Q := by
  intro p e R s m args below meth c9 H locs cells slots ls ad ad0 K0 hc9 hR hP hE hw hl
  subst hn
  have hts := hc9.2.2.2.2.1
  exact va_mmin hc9.1 hc9.2.1 (hc9.2.2.1.trans hl.1.symm) hc9.2.2.2.1 (hts _ hq1) (hts _ hq2) (hts _ hq3) (hts _ hq4) (by omega) (by rw [zcats]; omega) (by omega) (by omega) hd (kk p e R s m args below meth c9 H locs cells slots ls ad ad0 K0 hc9 hR hP hE ⟨hw.1, trivial, hw.2.2.2⟩ hl)
theorem z_max {idx : Nat} {x y : Int32} (hd : decode M.2.1 pc = .ok (.invokestatic idx, 3)) (hn : pc + 3 = n) (hq1 : Cond.methodLink M.1 idx Lib.Math.max.name ∈ lw_all) (hq2 : Cond.static Lib.Math.max.name ∈ lw_all) (hq3 : Cond.initialized "java/lang/Math" ∈ lw_all) (hq4 : Cond.code Lib.Math.max.name Lib.Math.max.code 2 (some .int) ∈ lw_all) (hfr : 1 ≤ fr) (hlo : (st.map fun v => v.category).sum + 13 ≤ lo)
    (kk : zW l G M fr lo mc ms n lv (.int (zmax x y) :: st) K F I L Q) : zW l G M fr lo mc ms pc lv (.int y :: .int x :: st) K F I L Q := by
  intro p e R s m args below meth c9 H locs cells slots ls ad ad0 K0 hc9 hR hP hE hw hl
  subst hn
  have hts := hc9.2.2.2.2.1
  exact va_mmax hc9.1 hc9.2.1 (hc9.2.2.1.trans hl.1.symm) hc9.2.2.2.1 (hts _ hq1) (hts _ hq2) (hts _ hq3) (hts _ hq4) (by omega) (by rw [zcats]; omega) (by omega) (by omega) hd (kk p e R s m args below meth c9 H locs cells slots ls ad ad0 K0 hc9 hR hP hE ⟨hw.1, trivial, hw.2.2.2⟩ hl)
theorem z_objInit {o idx : Nat} (hd : decode M.2.1 pc = .ok (.invokespecial idx, 3)) (hn : pc + 3 = n) (hq1 : Cond.methodLink M.1 idx Lib.objectInit ∈ lw_all) (hq2 : Cond.instanceMethod Lib.objectInit ∈ lw_all) (hq3 : Cond.code Lib.objectInit ⟨#[0xb1]⟩ 1 none ∈ lw_all) (hfr : 1 ≤ fr) (hlo : (st.map fun v => v.category).sum + 12 ≤ lo)
    (kk : zW l G M fr lo mc ms n lv st K F I L Q) : zW l G M fr lo mc ms pc lv (.ref o :: st) K F I L Q := by
  intro p e R s m args below meth c9 H locs cells slots ls ad ad0 K0 hc9 hR hP hE hw hl
  subst hn
  have hts := hc9.2.2.2.2.1
  refine W.objInit (a := ad o) (rest := st.map (zc ad)) hc9.1 hc9.2.1 hc9.2.2.2.1 (hts _ hq1) (hts _ hq2) (hts _ hq3) rfl (hl.1.trans hc9.2.2.1.symm) rfl hd (by omega) ?_ (kk p e R s m args below meth c9 H locs cells slots ls ad ad0 K0 hc9 hR hP hE ⟨hw.1, hw.2.2⟩ hl)
  have hM : 2 * (F0 m pc ls (List.map (zc ad) (Value.ref o :: st))).monitorRoom = 0 := rfl
  rw [hM, zcats]
  omega
/-! the ends of a method -/
theorem zend {K0 : zKd} {ad ad0 : Nat → Nat} {s : State} {H : Heap} {locs : List Loc} {v : Option Value} {args : Array Value} (hP : zRep G ad K F I L s H locs) (hE : zExt K0 ad0 K ad) (hv : ∀ x, v = some x → zwv K x) (hQ : Q (.inl v) K F I L) (t : State) (ht : t.heap = H) (hW : s.WarmedH t.vm) : zQc G K0 ad0 Q args s (.returned (v.map (zc ad))) t :=
  ⟨v, K, F, I, L, ad, rfl, by rw [ht]; exact hP.hp, hE, hv, hQ⟩
theorem z_iret {v : Int32} {ty : FieldType} (hd : decode M.2.1 pc = .ok (.ireturn, 1)) (hr : M.2.2.2.1 = some ty) (hnar : narrow ty (.int v) = .int v) (hQ : Q (.inl (some (.int v))) K F I L) : zW l G M fr lo mc ms pc lv [.int v] K F I L Q := by
  intro p e R s m args below meth c9 H locs cells slots ls ad ad0 K0 hc9 hR hP hE hw hl
  refine vx_ret (W.widen (k := R.cells) (n := R.slots) (by omega) (by omega) ?_)
  exact W.zret hc9.1 hc9.2.1 (hc9.2.2.2.2.2.1.trans hr) hnar (zend (v := some (.int v)) hP hE (fun x hx => by cases hx; trivial) hQ) hP.2.2.2.2.1.2.2 hd hc9.2.2.2.2.2.2.1
theorem z_vret (hd : decode M.2.1 pc = .ok (.return_, 1)) (hr : M.2.2.2.1 = none) (hQ : Q (.inl none) K F I L) : zW l G M fr lo mc ms pc lv [] K F I L Q := by
  intro p e R s m args below meth c9 H locs cells slots ls ad ad0 K0 hc9 hR hP hE hw hl
  refine vx_ret (W.widen (k := R.cells) (n := R.slots) (by omega) (by omega) ?_)
  exact W.vret hc9.1 hc9.2.1 (hc9.2.2.2.2.2.1.trans hr) (zend (v := none) hP hE (fun x hx => by cases hx) hQ) hP.2.2.2.2.1.2.2 hd hc9.2.2.2.2.2.2.1
theorem z_aret {r : Option Nat} {rt : FieldType} (hd : decode M.2.1 pc = .ok (.areturn, 1)) (hr : M.2.2.2.1 = some rt) (hrt : (∃ n, rt = .object n) ∨ ∃ t, rt = .array t) (hQ : Q (.inl (some (zrf r))) K F I L) : zW l G M fr lo mc ms pc lv [zrf r] K F I L Q := by
  intro p e R s m args below meth c9 H locs cells slots ls ad ad0 K0 hc9 hR hP hE hw hl
  refine vx_ret (W.widen (k := R.cells) (n := R.slots) (by omega) (by omega) ?_)
  exact W.aret hc9.1 hc9.2.1 (hc9.2.2.2.2.2.1.trans hr) hrt (by cases r with
    | none => exact Or.inl rfl
    | some i => exact Or.inr ⟨_, rfl⟩) (zend (v := some (zrf r)) hP hE (fun x hx => by cases hx; exact hw.2.1) hQ) hP.2.2.2.2.1.2.2 hd hc9.2.2.2.2.2.2.1
end Z5
