/-! Z12: more rules: copies of bytes and references, a super call, a class's object, a clone, String constants -/
section Z12
variable {l : Launch} {G : zGt} {M : zM} {fr lo mc ms pc n : Nat} {lv lv' : List (Nat × Value)} {st : List Value} {K K1 : zKd} {F F1 : zFd} {I I1 : zId} {L L1 : zLd} {Q : zQt}
def zcpfb (I : zId) (src sk nk : Nat) : Bool := (List.range nk).all fun i => zfitsB (I src (sk + i))
theorem zcpfb_ok {I : zId} {src sk nk : Nat} (h : zcpfb I src sk nk = true) {i : Nat} (hi : i < nk) : zfitsB (I src (sk + i)) = true :=
  List.all_eq_true.mp h i (List.mem_range.mpr hi)
theorem z_copyb {idx src dst n0 n1 : Nat} {sp dp k : Int32} {sk dk nk : Nat} (hd : decode M.2.1 pc = .ok (.invokestatic idx, 3)) (hn : pc + 3 = n) (hq1 : Cond.methodLink M.1 idx arraycopyName ∈ lw_all) (hq2 : Cond.native arraycopyName ∈ lw_all) (hq3 : Cond.static arraycopyName ∈ lw_all) (hq4 : Cond.initialized "java/lang/System" ∈ lw_all)
    (hk0 : K src = some (64 + 1, n0)) (hk1 : K dst = some (64 + 1, n1)) (hso : zNC ≤ src) (ho : zNC ≤ dst) (hok : zcpok sp dp k n0 n1 = true) (hft : zcpfb I src sk nk = true) (hsk : sp.toNatClampNeg = sk) (hdk : dp.toNatClampNeg = dk) (hnk : k.toNatClampNeg = nk) (he : I1 = zcpy I src sk dst dk nk) (hfr : 1 ≤ fr) (hlo : (st.map fun v => v.category).sum + (nativeFrameWords "java/lang/System" "arraycopy" 5 + 11) ≤ lo)
    (kk : zW l G M fr lo mc ms n lv st K F I1 L Q) : zW l G M fr lo mc ms pc lv (.int k :: .int dp :: .ref dst :: .int sp :: .ref src :: st) K F I L Q := by
  intro p e R s m args below meth c9 H locs cells slots ls ad ad0 K0 hc9 hR hP hE hw hl
  subst hn; subst hsk; subst hdk; subst hnk; subst he
  simp only [zcpok, Bool.and_eq_true, Bool.not_eq_true', decide_eq_false_iff_not, decide_eq_true_eq] at hok
  obtain ⟨⟨⟨⟨h1, h2⟩, h3⟩, h4⟩, h5⟩ := hok
  have hts := hc9.2.2.2.2.1
  have nn : ∀ z : Int32, ¬ z < 0 → z.toInt = (z.toNatClampNeg : Int) := by
    intro z hz
    have hz0 : (0 : Int) ≤ z.toInt := by
      have := Int32.not_lt.mp hz
      simpa using Int32.le_iff_toInt_le.mp this
    show z.toInt = ((z.toInt.toNat : Nat) : Int)
    omega
  obtain ⟨hc0, z0, -⟩ := hP.arrw (t := 1) (by decide) hk0 hso
  obtain ⟨hc1, z1, -⟩ := hP.arrw (t := 1) (by decide) hk1 ho
  obtain ⟨-, k0, hkk0, cm0, hkn0⟩ := (hP.2.2.2.2.2.1.2 1 _ z0).1 n0 (fun j => Value.int (I src j))
  obtain ⟨-, k1, hkk1, cm1, hkn1⟩ := (hP.2.2.2.2.2.1.2 1 _ z1).1 n1 (fun j => Value.int (I dst j))
  intro T hT X
  obtain ⟨vm', X', step⟩ := X.arraycopy hc9.1 hc9.2.2.2.1 (hts _ hq1) (hts _ hq2) (hts _ hq3) (hts _ hq4) (src := ad src) (dst := ad dst) (cs := arrV (G.1.2.2 1) n0 (fun j => Value.int (I src j))) (cd := arrV (G.1.2.2 1) n1 (fun j => Value.int (I dst j))) (srcPos := sp) (destPos := dp) (n := k) (by rw [hT]; exact hc0) (by rw [hT]; exact hc1)
    (fun _ h => by cases h) (fun _ h => by cases h) (fun h => by cases h) (fun h => by cases h) hkk0 hkk1 hkn0 hkn1 rfl h1 h2 h3
    (by rw [nn sp h1, nn k h3, arrV_size]; omega)
    (by rw [nn dp h2, nn k h3, arrV_size]; omega)
    (fun vm₁ _ i hi => by
      have e : (arrV (G.1.2.2 1) n0 (fun j => Value.int (I src j))).slots.getD (sp.toNatClampNeg + i) .null = .int (I src (sp.toNatClampNeg + i)) := by
        rw [Array.getD_eq_getD_getElem?, arrV_read _ _ (by omega)]
        rfl
      rw [e]
      exact ⟨(zfitsB_ok (zcpfb_ok hft hi)).2, trivial⟩)
    (g := F0 m pc ls (.int k :: .int dp :: .ref (ad dst) :: .int sp :: .ref (ad src) :: st.map (zc ad))) rfl (hl.1.trans hc9.2.2.1.symm) (rest := st.map (zc ad)) rfl (by rw [hc9.2.1]; exact hd) (by omega) (by show 2 * 0 + _ + _ ≤ _; rw [zcats]; omega)
  have e1 : copied (arrV (G.1.2.2 1) n0 (fun j => Value.int (I src j))) (arrV (G.1.2.2 1) n1 (fun j => Value.int (I dst j))) sp dp k = arrV (G.1.2.2 1) n1 (fun j => Value.int (va_cpy (I src) (I dst) sp.toNatClampNeg dp.toNatClampNeg k.toNatClampNeg j)) := va_copied (fun z => .int z) _ _ (I src) (I dst) h4
  rw [e1] at X' step
  have hla : ad dst < H.size := (Array.getElem?_eq_some_iff.mp hc1).1
  generalize hcell : arrV (G.1.2.2 1) n1 (fun j => Value.int (va_cpy (I src) (I dst) sp.toNatClampNeg dp.toNatClampNeg k.toNatClampNeg j)) = cell' at X' step
  have hheap : ((T.setVm vm').setCell (ad dst) cell').heap = H.setIfInBounds (ad dst) cell' := by rw [← hT]; rfl
  have hK1 : K dst ≠ none := by rw [hk1]; exact fun g => nomatch g
  have hP2 : ∀ l2 : List Loc, (∀ z ∈ l2, z.base = ad dst) → zRep G ad K F (zcpy I src sp.toNatClampNeg dst dp.toNatClampNeg k.toNatClampNeg) L s (H.setIfInBounds (ad dst) cell') (locs ++ l2) := by
    intro l2 hl2
    refine hP.write (F' := F) (L' := L) ho hK1 (by simp) (fun q hq => by simp [Array.getElem?_setIfInBounds, Ne.symm hq]) (fun a ha => ⟨rfl, funext fun b => if_neg fun z => ha z.1, rfl⟩) ?_ (fun b j hj => hP.2.2.1 dst b j hK1 hj) hl2
    · intro c' n' hc'
      cases Option.some.inj (hk1.symm.trans hc')
      refine Or.inr ⟨1, rfl, by decide, ?_⟩
      rw [show (H.setIfInBounds (ad dst) cell')[ad dst]? = some cell' by simp [Array.getElem?_setIfInBounds, hla], ← hcell]
      refine congrArg (fun f => some (arrV _ _ f)) (funext fun j => ?_)
      show Value.int _ = Value.int _
      refine congrArg Value.int ?_
      unfold va_cpy zcpy
      by_cases g : dp.toNatClampNeg ≤ j ∧ j < dp.toNatClampNeg + k.toNatClampNeg
      · rw [if_pos g, if_pos ⟨rfl, g.1, g.2⟩]
      · rw [if_neg g, if_neg fun z => g z.2]
  obtain ⟨t, a1, b1⟩ := kk p e R s m args below meth c9 _ _ cells slots ls ad ad0 K0 hc9 hR (hP2 _ (fun z hz => by obtain ⟨i, -, rfl⟩ := List.mem_map.mp hz; rfl)) hE ⟨hw.1, hw.2.2.2.2.2.2⟩ hl _ hheap X'
  exact ⟨t, step t a1, b1⟩
def zcpyF (F : zFd) (src sk dst dk nk : Nat) : zFd := fun a b => if a = dst ∧ dk ≤ b ∧ b < dk + nk then F src (sk + (b - dk)) else F a b
/-- the elements are null or of classes that are known to be Objects -/
def zoel (K : zKd) (r : Option Nat) : Bool := match r with
  | none => true
  | some y => match K y with
    | some (c, _) => c == 5 || c == 9 || c == 10 || c == 17
    | none => false
def zcpfq (K : zKd) (F : zFd) (src sk nk : Nat) : Bool := (List.range nk).all fun i => zoel K (F src (sk + i))
theorem zcpfq_ok {K : zKd} {F : zFd} {src sk nk : Nat} (h : zcpfq K F src sk nk = true) {i y : Nat} (hi : i < nk) (hy : F src (sk + i) = some y) : ∃ (c n : Nat) (q : vw_C), K y = some (c, n) ∧ zCl[c]? = some q ∧ Cond.castable q.1 "java/lang/Object" ∈ lw_tbl := by
  have h1 := List.all_eq_true.mp h i (List.mem_range.mpr hi)
  rw [hy] at h1
  unfold zoel at h1
  dsimp only at h1
  cases hk : K y with
  | none => rw [hk] at h1; cases h1
  | some p =>
    obtain ⟨c, n⟩ := p
    rw [hk] at h1
    simp only [Bool.or_eq_true, beq_iff_eq] at h1
    rcases h1 with ((rfl | rfl) | rfl) | rfl
    · exact ⟨_, _, _, rfl, rfl, q2312⟩
    · exact ⟨_, _, _, rfl, rfl, q2317⟩
    · exact ⟨_, _, _, rfl, rfl, q2318⟩
    · exact ⟨_, _, _, rfl, rfl, q2319⟩
theorem z_copyq {idx src dst n0 n1 : Nat} {sp dp k : Int32} {sk dk nk : Nat} (hd : decode M.2.1 pc = .ok (.invokestatic idx, 3)) (hn : pc + 3 = n) (hq1 : Cond.methodLink M.1 idx arraycopyName ∈ lw_all) (hq2 : Cond.native arraycopyName ∈ lw_all) (hq3 : Cond.static arraycopyName ∈ lw_all) (hq4 : Cond.initialized "java/lang/System" ∈ lw_all)
    (hk0 : K src = some (64 + 4, n0)) (hk1 : K dst = some (64 + 4, n1)) (hso : zNC ≤ src) (ho : zNC ≤ dst) (hok : zcpok sp dp k n0 n1 = true) (hft : zcpfq K F src sk nk = true) (hsk : sp.toNatClampNeg = sk) (hdk : dp.toNatClampNeg = dk) (hnk : k.toNatClampNeg = nk) (he : F1 = zcpyF F src sk dst dk nk) (hfr : 1 ≤ fr) (hlo : (st.map fun v => v.category).sum + (nativeFrameWords "java/lang/System" "arraycopy" 5 + 11) ≤ lo)
    (kk : zW l G M fr lo mc ms n lv st K F1 I L Q) : zW l G M fr lo mc ms pc lv (.int k :: .int dp :: .ref dst :: .int sp :: .ref src :: st) K F I L Q := by
  intro p e R s m args below meth c9 H locs cells slots ls ad ad0 K0 hc9 hR hP hE hw hl
  subst hn; subst hsk; subst hdk; subst hnk; subst he
  simp only [zcpok, Bool.and_eq_true, Bool.not_eq_true', decide_eq_false_iff_not, decide_eq_true_eq] at hok
  obtain ⟨⟨⟨⟨h1, h2⟩, h3⟩, h4⟩, h5⟩ := hok
  have hts := hc9.2.2.2.2.1
  have nn : ∀ z : Int32, ¬ z < 0 → z.toInt = (z.toNatClampNeg : Int) := by
    intro z hz
    have hz0 : (0 : Int) ≤ z.toInt := by
      have := Int32.not_lt.mp hz
      simpa using Int32.le_iff_toInt_le.mp this
    show z.toInt = ((z.toInt.toNat : Nat) : Int)
    omega
  obtain ⟨hc0, z0, -⟩ := hP.arrw (t := 4) (by decide) hk0 hso
  obtain ⟨hc1, z1, -⟩ := hP.arrw (t := 4) (by decide) hk1 ho
  obtain ⟨-, k0, hkk0, cm0, hkn0⟩ := (hP.2.2.2.2.2.1.2 4 _ z0).1 n0 (fun j => va_rf ((F src j).map ad))
  obtain ⟨-, k1, hkk1, cm1, hkn1⟩ := (hP.2.2.2.2.2.1.2 4 _ z1).1 n1 (fun j => va_rf ((F dst j).map ad))
  intro T hT X
  obtain ⟨vm', X', step⟩ := X.arraycopy hc9.1 hc9.2.2.2.1 (hts _ hq1) (hts _ hq2) (hts _ hq3) (hts _ hq4) (src := ad src) (dst := ad dst) (cs := arrV (G.1.2.2 4) n0 (fun j => va_rf ((F src j).map ad))) (cd := arrV (G.1.2.2 4) n1 (fun j => va_rf ((F dst j).map ad))) (srcPos := sp) (destPos := dp) (n := k) (by rw [hT]; exact hc0) (by rw [hT]; exact hc1)
    (fun _ h => by cases h) (fun _ h => by cases h) (fun h => by cases h) (fun h => by cases h) hkk0 hkk1 hkn0 hkn1 rfl h1 h2 h3
    (by rw [nn sp h1, nn k h3, arrV_size]; omega)
    (by rw [nn dp h2, nn k h3, arrV_size]; omega)
    (fun vm₁ hal i hi => by
      have e : (arrV (G.1.2.2 4) n0 (fun j => va_rf ((F src j).map ad))).slots.getD (sp.toNatClampNeg + i) .null = va_rf ((F src (sp.toNatClampNeg + i)).map ad) := by
        rw [Array.getD_eq_getD_getElem?, arrV_read _ _ (by omega)]
        rfl
      rw [e]
      cases hy : F src (sp.toNatClampNeg + i) with
      | none => exact ⟨rfl, trivial⟩
      | some y =>
        obtain ⟨c, n2, qc, w1, w2, w3⟩ := zcpfq_ok hft hi hy
        obtain ⟨cellV, g1, g2, g3⟩ := hP.obj w1 w2
        obtain ⟨kA, comp, r1, r2, r3, -⟩ := (hP.2.2.2.2.2.1.2 4 _ z1).2
        cases hkk1.symm.trans r1
        cases hkn1.symm.trans r2
        obtain ⟨kC, hkC, -⟩ := Vm.findClass_spec g3
        obtain ⟨kE, hkE, -⟩ := Vm.findClass_spec r3
        obtain ⟨kC', hkC', -⟩ := hal.2.2 _ _ hkC
        obtain ⟨kE', hkE', -⟩ := hal.2.2 _ _ hkE
        refine ⟨rfl, cellV, (show T.heap[ad y]? = some cellV by rw [hT]; exact g1), (fun q h => by rw [h] at g2; cases g2), ⟨kC', hkC'⟩, ?_, ?_⟩
        · exact ⟨kE', hkE'⟩
        · show vm₁.assignable _ _ = true
          rw [hal.assignable]
          exact zcast hP.2.2.2.2.2.2.2 (Or.inl w3) r3 g3)
    (g := F0 m pc ls (.int k :: .int dp :: .ref (ad dst) :: .int sp :: .ref (ad src) :: st.map (zc ad))) rfl (hl.1.trans hc9.2.2.1.symm) (rest := st.map (zc ad)) rfl (by rw [hc9.2.1]; exact hd) (by omega) (by show 2 * 0 + _ + _ ≤ _; rw [zcats]; omega)
  have e1 : copied (arrV (G.1.2.2 4) n0 (fun j => va_rf ((F src j).map ad))) (arrV (G.1.2.2 4) n1 (fun j => va_rf ((F dst j).map ad))) sp dp k = arrV (G.1.2.2 4) n1 (fun j => va_rf (va_cpy (fun j => (F src j).map ad) (fun j => (F dst j).map ad) sp.toNatClampNeg dp.toNatClampNeg k.toNatClampNeg j)) := va_copied (fun z => va_rf z) _ _ (fun j => (F src j).map ad) (fun j => (F dst j).map ad) h4
  rw [e1] at X' step
  have hla : ad dst < H.size := (Array.getElem?_eq_some_iff.mp hc1).1
  generalize hcell : arrV (G.1.2.2 4) n1 (fun j => va_rf (va_cpy (fun j => (F src j).map ad) (fun j => (F dst j).map ad) sp.toNatClampNeg dp.toNatClampNeg k.toNatClampNeg j)) = cell' at X' step
  have hheap : ((T.setVm vm').setCell (ad dst) cell').heap = H.setIfInBounds (ad dst) cell' := by rw [← hT]; rfl
  have hK1 : K dst ≠ none := by rw [hk1]; exact fun g => nomatch g
  have hK0 : K src ≠ none := by rw [hk0]; exact fun g => nomatch g
  have hP2 : ∀ l2 : List Loc, (∀ z ∈ l2, z.base = ad dst) → zRep G ad K (zcpyF F src sp.toNatClampNeg dst dp.toNatClampNeg k.toNatClampNeg) I L s (H.setIfInBounds (ad dst) cell') (locs ++ l2) := by
    intro l2 hl2
    refine hP.write (I' := I) (L' := L) ho hK1 (by simp) (fun q hq => by simp [Array.getElem?_setIfInBounds, Ne.symm hq]) (fun a ha => ⟨funext fun b => if_neg fun z => ha z.1, rfl, rfl⟩) ?_ (fun b j hj => ?_) hl2
    · intro c' n' hc'
      cases Option.some.inj (hk1.symm.trans hc')
      refine Or.inr ⟨4, rfl, by decide, ?_⟩
      rw [show (H.setIfInBounds (ad dst) cell')[ad dst]? = some cell' by simp [Array.getElem?_setIfInBounds, hla], ← hcell]
      refine congrArg (fun f => some (arrV _ _ f)) (funext fun j => ?_)
      show va_rf _ = va_rf _
      refine congrArg va_rf ?_
      unfold va_cpy zcpyF
      by_cases g : dp.toNatClampNeg ≤ j ∧ j < dp.toNatClampNeg + k.toNatClampNeg
      · rw [if_pos g, if_pos ⟨rfl, g.1, g.2⟩]
      · rw [if_neg g, if_neg fun z => g z.2]
    · unfold zcpyF at hj
      split at hj
      · exact hP.2.2.1 src _ j hK0 hj
      · exact hP.2.2.1 dst b j hK1 hj
  obtain ⟨t, a1, b1⟩ := kk p e R s m args below meth c9 _ _ cells slots ls ad ad0 K0 hc9 hR (hP2 _ (fun z hz => by obtain ⟨i, -, rfl⟩ := List.mem_map.mp hz; rfl)) hE ⟨hw.1, hw.2.2.2.2.2.2⟩ hl _ hheap X'
  exact ⟨t, step t a1, b1⟩
/-- a String constant -/
theorem z_ldcwS {idx j : Nat} {tx : String} (hd : decode M.2.1 pc = .ok (.ldc_w idx, 3)) (hn : pc + 3 = n) (hz : (M.1, idx, tx, j) ∈ zLit) (hj : j < zNC) (hK : K j ≠ none) (kk : zW l G M fr lo mc ms n lv (.ref j :: st) K F I L Q) : zW l G M fr lo mc ms pc lv st K F I L Q := by
  intro p e R s m args below meth c9 H locs cells slots ls ad ad0 K0 hc9 hR hP hE hw hl
  subst hn
  have h0 := (hP.2.2.2.2.2.2.1.2.2.2.1 _ hz)
  have e4 := (hP.2.2.2.1 j hj).2.2.2
  dsimp only at h0
  rw [← e4] at h0
  intro T hT X
  obtain ⟨k, cf, i, a', hk, hcf, hcp, -, hr, hev'⟩ := Cond.stringRef_spec hc9.2.2.2.1 h0.1
  cases h0.2.symm.trans hev'
  obtain ⟨k', hk', he⟩ := X.warmed.alike.2.2 _ _ hk
  have hr' : k'.resolved[idx]? = some (some (.string (ad j))) := by
    rcases X.warmed.entry hk hk' idx with h | ⟨h, -⟩
    · rw [h]; exact hr
    · rw [hr] at h; cases h
  obtain ⟨t, a1, b1⟩ := kk p e R s m args below meth c9 H locs cells slots ls ad ad0 K0 hc9 hR hP hE ⟨hw.1, hK, hw.2⟩ hl T hT X
  refine ⟨t, ?_, b1⟩
  have hdg : decode c9.code (F0 m pc ls (st.map (zc ad))).pc = .ok (.ldc_w idx, 3) := by rw [hc9.2.1]; exact hd
  jvm_step X.here [hc9.1, hdg, ldc_w.wp_string (e := e) (s := T) (f := F0 m pc ls (st.map (zc ad))) X.here.top hk' (by rw [he]; exact hcf) hcp hr']
  exact a1
/-- getClass() of an array of Objects -/
theorem z_getC {idx o n0 : Nat} (hd : decode M.2.1 pc = .ok (.invokevirtual idx, 3)) (hn : pc + 3 = n) (hq : Cond.methodLink M.1 idx ⟨"java/lang/Object", "getClass", "()Ljava/lang/Class;"⟩ ∈ lw_all) (hq2 : Cond.declares ⟨"java/lang/Object", "getClass", "()Ljava/lang/Class;"⟩ ∈ lw_tbl) (hq3 : Cond.selects "[Ljava/lang/Object;" ⟨"java/lang/Object", "getClass", "()Ljava/lang/Class;"⟩ ⟨"java/lang/Object", "getClass", "()Ljava/lang/Class;"⟩ ∈ lw_all) (hq4 : Cond.instanceMethod ⟨"java/lang/Object", "getClass", "()Ljava/lang/Class;"⟩ ∈ lw_all) (hq5 : Cond.native ⟨"java/lang/Object", "getClass", "()Ljava/lang/Class;"⟩ ∈ lw_all)
    (hk : K o = some (64 + 4, n0)) (ho : zNC ≤ o) (hK : K 21 ≠ none) (hfr : 1 ≤ fr) (hlo : (st.map fun v => v.category).sum + 14 ≤ lo) (kk : zW l G M fr lo mc ms n lv (.ref 21 :: st) K F I L Q) : zW l G M fr lo mc ms pc lv (.ref o :: st) K F I L Q := by
  intro p e R s m args below meth c9 H locs cells slots ls ad ad0 K0 hc9 hR hP hE hw hl
  subst hn
  have hts := hc9.2.2.2.2.1
  obtain ⟨z1, z0, -⟩ := hP.arrw (t := 4) (by decide) hk ho
  have hM := hP.2.2.2.2.2.2.1.2.2.2.2.2.2.2.1
  rw [← (hP.2.2.2.1 21 (by decide)).2.2.2] at hM
  exact va_getC hc9.1 hc9.2.1 (hl.1.trans hc9.2.2.1.symm).symm hc9.2.2.2.1 (hts _ hq) (va_Nw.use (A := args) rfl (hP.2.2.2.2.2.2.2.1 _ hq2 rfl)) (hts _ hq3) (hts _ hq4) (hts _ hq5) hM ⟨_, z1, rfl, va_nmO (hP.2.2.2.2.2.1.2 4 _ z0).2 (by decide +kernel)⟩ (by omega) (by rw [zcats]; omega) hd
    (kk p e R s m args below meth c9 H locs cells slots ls ad ad0 K0 hc9 hR hP hE ⟨hw.1, hK, hw.2.2⟩ hl)
theorem z_ldcM {idx : Nat} (hd : decode M.2.1 pc = .ok (.ldc idx, 2)) (hn : pc + 2 = n) (hq : Cond.classLink M.1 idx "[Ljava/lang/Object;" ∈ lw_all) (hK : K 21 ≠ none) (kk : zW l G M fr lo mc ms n lv (.ref 21 :: st) K F I L Q) : zW l G M fr lo mc ms pc lv st K F I L Q := by
  intro p e R s m args below meth c9 H locs cells slots ls ad ad0 K0 hc9 hR hP hE hw hl
  subst hn
  have hM := hP.2.2.2.2.2.2.1.2.2.2.2.2.2.2.1
  rw [← (hP.2.2.2.1 21 (by decide)).2.2.2] at hM
  exact va_ldcM hc9.1 hc9.2.1 hc9.2.2.2.1 (hc9.2.2.2.2.1 _ hq) hM hd (kk p e R s m args below meth c9 H locs cells slots ls ad ad0 K0 hc9 hR hP hE ⟨hw.1, hK, hw.2⟩ hl)
/-- super.m(..) -/
theorem z_cSU {idx nA fr1 lo1 mc1 ms1 mc2 ms2 maxL b c n0 : Nat} {y : MethodName} {bytes : ByteArray} {ret : Option FieldType} {As st0 : List Value} {q : vw_C} {v : Option Value} (hm : zMet l G y (ws_ y bytes maxL ret) fr1 lo1 mc1 ms1 (.ref b :: As) K F I L (zQe (.inl v) K1 F1 I1 L1)) (hd : decode M.2.1 pc = .ok (.invokespecial idx, 3)) (hn : pc + 3 = n)
    (hq0 : Cond.code y bytes maxL ret ∈ lw_all) (hq1 : Cond.methodLink M.1 idx y ∈ lw_all) (hq2 : Cond.sameMethod y.cls y.cls y.name y.desc ∈ lw_all) (hq3 : Cond.superclass M.1 y.cls ∈ lw_all) (hq4 : Cond.instanceMethod y ∈ lw_all) (hq5 : Cond.initialized y.cls ∈ lw_all)
    (hy : y.name ≠ "<init>" ∧ (parseMethodDescriptor y.desc).map (fun d => d.parameters.length) = some nA) (hA : As.length = nA) (hR1 : fr1 + 1 ≤ fr ∧ 8 + (maxL + 11) + lo1 ≤ lo) (hb : K b = some (c, n0)) (hc : zCl[c]? = some q) (hs : st0 = As.reverse ++ .ref b :: st) (hst : (st.map fun v => v.category).sum ≤ 8) (hmc : mc2 + mc1 ≤ mc) (hms : ms2 + ms1 ≤ ms)
    (kk : zW l G M fr lo mc2 ms2 n lv (v.toList ++ st) K1 F1 I1 L1 Q) : zW l G M fr lo mc ms pc lv st0 K F I L Q := by
  intro p e R s m args below meth c9 H locs cells slots ls ad ad0 K0 hc9 hR hP hE hw hl
  subst hs
  obtain ⟨w1, w2⟩ := zws_app hw.2
  have hwA : zws K (.ref b :: As) := ⟨w2.1, zws_rev w1⟩
  have hG : GoodIn lw_all (va_wsSU M.1 idx y (ws_ y bytes maxL ret)) := by
    refine lw_app ?_ (lw_meth hq0)
    intro w hw
    simp only [List.mem_cons, List.not_mem_nil, or_false] at hw
    rcases hw with e | e | e | e | e
    · rw [e]; exact hq1
    · rw [e]; exact hq2
    · rw [e]; exact hq3
    · rw [e]; exact hq4
    · rw [e]; exact hq5
  exact zRun_W (a := ((Value.ref (ad b)) :: As.map (zc ad)).toArray) (vx_runSU (C := q.1) (hP.2.2.2.2.2.1.1 c q hc).2 (As := As.map (zc ad)) (rest := st.map (zc ad)) (b := ad b) ⟨hc9.1, hc9.2.1, hc9.2.2.1, hc9.2.2.2.1, hc9.2.2.2.2.1⟩ (hm ad) (va_cwSU nA hc9.2.2.2.2.1 hG rfl rfl rfl hy ⟨by show fr1 + 1 ≤ R.frames; omega, by show 8 + (maxL + 11) + lo1 ≤ R.locals; omega⟩) ⟨zRep.blind, hP.obj hb hc, zPre (p := p) (e := e) hP hwA⟩ rfl (by rw [List.length_map]; exact hA) hl.1 (zstk ad As st b) (zroom hst) hd ⟨by omega, by omega⟩) hn hc9 hR hmc hms hP hE ⟨hw.1, w2.2⟩ hl (zQe_kk kk) zQe_kx
/-- a call of a method of a class above the receiver's -/
theorem z_cU {idx nA fr1 lo1 mc1 ms1 mc2 ms2 maxL maxL2 b c n0 : Nat} {x y : MethodName} {bytes bytes2 : ByteArray} {ret ret2 : Option FieldType} {C : String} {As st0 : List Value} {q : vw_C} {v : Option Value} (hm : zMet l G y (ws_ y bytes maxL ret) fr1 lo1 mc1 ms1 (.ref b :: As) K F I L (zQe (.inl v) K1 F1 I1 L1)) (hd : decode M.2.1 pc = .ok (.invokevirtual idx, 3)) (hn : pc + 3 = n)
    (hq1 : Cond.methodLink M.1 idx x ∈ lw_all) (hq2 : Cond.sameMethod x.cls x.cls x.name x.desc ∈ lw_all) (hq3 : Cond.selects C x y ∈ lw_all) (hq4 : Cond.instanceMethod y ∈ lw_all) (hq5 : Cond.initialized y.cls ∈ lw_all) (hq6 : Cond.code y bytes maxL ret ∈ lw_all) (hz1 : Cond.instanceMethod x ∈ lw_all) (hz2 : Cond.code x bytes2 maxL2 ret2 ∈ lw_all)
    (hd2 : x.cls ≠ "java/lang/invoke/MethodHandle" ∧ x.cls ≠ "java/lang/invoke/VarHandle" ∧ (parseMethodDescriptor x.desc).map (fun d => d.parameters.length) = some nA) (hA : As.length = nA) (hR1 : fr1 + 1 ≤ fr ∧ 8 + (maxL + 11) + lo1 ≤ lo) (hb : K b = some (c, n0)) (hc : zCl[c]? = some q) (hq : q.1 = C) (hs : st0 = As.reverse ++ .ref b :: st) (hst : (st.map fun v => v.category).sum ≤ 8) (hmc : mc2 + mc1 ≤ mc) (hms : ms2 + ms1 ≤ ms)
    (kk : zW l G M fr lo mc2 ms2 n lv (v.toList ++ st) K1 F1 I1 L1 Q) : zW l G M fr lo mc ms pc lv st0 K F I L Q := by
  intro p e R s m args below meth c9 H locs cells slots ls ad ad0 K0 hc9 hR hP hE hw hl
  subst hs
  subst hq
  have hts := hc9.2.2.2.2.1
  obtain ⟨w1, w2⟩ := zws_app hw.2
  have hwA : zws K (.ref b :: As) := ⟨w2.1, zws_rev w1⟩
  have hG : GoodIn lw_all (va_wsU M.1 idx q.1 x.cls x y (ws_ y bytes maxL ret)) := by
    refine lw_app ?_ (lw_meth hq6)
    intro w hw
    simp only [List.mem_cons, List.not_mem_nil, or_false] at hw
    rcases hw with e | e | e | e | e
    · rw [e]; exact hq1
    · rw [e]; exact hq2
    · rw [e]; exact hq3
    · rw [e]; exact hq4
    · rw [e]; exact hq5
  have cw : va_CU R s args M.1 q.1 x.cls idx x y bytes maxL ret (ws_ y bytes maxL ret) { frames := fr1, cells := mc1, slots := ms1, locals := lo1 } mc1 ms1 nA := by
    have ok : ∀ w ∈ va_wsU M.1 idx q.1 x.cls x y (ws_ y bytes maxL ret), w.before args s = true := fun w h => hts w (hG w h).1
    have hG2 : GoodIn lw_all (ws_ y bytes maxL ret) := lw_meth hq6
    have hc2 : Cond.code y bytes maxL ret ∈ ws_ y bytes maxL ret := List.mem_cons_self
    refine ⟨⟨rfl, rfl, by show fr1 + 1 ≤ R.frames; omega, by show 8 + (maxL + 11) + lo1 ≤ R.locals; omega, pay_in hts hG2, hc2⟩, hts _ hq6, ok _ (by simp [va_wsU]), ⟨hd2.1, hd2.2.1⟩, fun sig h => ?_, ok _ (by simp [va_wsU]), ok _ (by simp [va_wsU]), va_Decl.of (hts _ hz1) (hts _ hz2), ok _ (by simp [va_wsU]), ok _ (by simp [va_wsU])⟩
    have h2 := hd2.2.2
    rw [h] at h2
    exact (Option.some.inj h2).symm
  exact zRun_W (a := ((Value.ref (ad b)) :: As.map (zc ad)).toArray) (vx_runU (As := As.map (zc ad)) (rest := st.map (zc ad)) (b := ad b) (C := q.1) ⟨hc9.1, hc9.2.1, hc9.2.2.1, hc9.2.2.2.1, hts⟩ (hm ad) cw ⟨zRep.blind, hP.obj hb hc, zPre (p := p) (e := e) hP hwA⟩ rfl (by rw [List.length_map]; exact hA) hl.1 (zstk ad As st b) (zroom hst) hd ⟨by omega, by omega⟩) hn hc9 hR hmc hms hP hE ⟨hw.1, w2.2⟩ hl (zQe_kk kk) zQe_kx
/-- .. of a private one -/
theorem z_cP {idx nA fr1 lo1 mc1 ms1 mc2 ms2 maxL b c n0 : Nat} {y2 : MethodName} {bytes : ByteArray} {ret : Option FieldType} {C : String} {As st0 : List Value} {q : vw_C} {v : Option Value} (hm : zMet l G yJ7_ensureCapacityInternal (ws_ yJ7_ensureCapacityInternal bytes maxL ret) fr1 lo1 mc1 ms1 (.ref b :: As) K F I L (zQe (.inl v) K1 F1 I1 L1)) (hd : decode M.2.1 pc = .ok (.invokevirtual idx, 3)) (hn : pc + 3 = n)
    (hq1 : Cond.methodLink M.1 idx yJ7_ensureCapacityInternal ∈ lw_all) (hq2 : Cond.sameMethod yJ7_ensureCapacityInternal.cls yJ7_ensureCapacityInternal.cls yJ7_ensureCapacityInternal.name yJ7_ensureCapacityInternal.desc ∈ lw_all) (hq3 : Cond.selects C y2 y2 ∈ lw_all) (hy2 : y2.cls = yJ7_ensureCapacityInternal.cls) (hq4 : Cond.instanceMethod yJ7_ensureCapacityInternal ∈ lw_all) (hq5 : Cond.initialized yJ7_ensureCapacityInternal.cls ∈ lw_all) (hq6 : Cond.code yJ7_ensureCapacityInternal bytes maxL ret ∈ lw_all) 
    (hd2 : yJ7_ensureCapacityInternal.cls ≠ "java/lang/invoke/MethodHandle" ∧ yJ7_ensureCapacityInternal.cls ≠ "java/lang/invoke/VarHandle" ∧ (parseMethodDescriptor yJ7_ensureCapacityInternal.desc).map (fun d => d.parameters.length) = some nA) (hA : As.length = nA) (hR1 : fr1 + 1 ≤ fr ∧ 8 + (maxL + 11) + lo1 ≤ lo) (hb : K b = some (c, n0)) (hc : zCl[c]? = some q) (hq : q.1 = C) (hs : st0 = As.reverse ++ .ref b :: st) (hst : (st.map fun v => v.category).sum ≤ 8) (hmc : mc2 + mc1 ≤ mc) (hms : ms2 + ms1 ≤ ms)
    (kk : zW l G M fr lo mc2 ms2 n lv (v.toList ++ st) K1 F1 I1 L1 Q) : zW l G M fr lo mc ms pc lv st0 K F I L Q := by
  intro p e R s m args below meth c9 H locs cells slots ls ad ad0 K0 hc9 hR hP hE hw hl
  subst hs
  subst hq
  have hts := hc9.2.2.2.2.1
  obtain ⟨w1, w2⟩ := zws_app hw.2
  have hwA : zws K (.ref b :: As) := ⟨w2.1, zws_rev w1⟩
  have hsel : (Cond.selects q.1 yJ7_ensureCapacityInternal yJ7_ensureCapacityInternal).before args s = true := by
    obtain ⟨c1, r1, m1, h1, h2, h3, h4, mk1, h5, h6⟩ := Cond.selects_spec (hts _ hq3)
    have hpriv := Cond.privateMethod_at hP.2.2.2.2.2.2.2.2.2.2.2
    obtain ⟨mk, methM, hnamed, hmethM, -, -⟩ := Cond.instanceMethod_spec (hts _ hq4)
    have hfound : s.methodFound? yJ7_ensureCapacityInternal.cls yJ7_ensureCapacityInternal.name yJ7_ensureCapacityInternal.desc = some mk := State.methodFound?_of_named hnamed ⟨hd2.1, hd2.2.1⟩
    have hcls : mk.cls = m1.cls := Option.some.inj ((findClass_of_methodNamed hnamed).symm.trans (by rw [← hy2]; exact findClass_of_methodNamed h3))
    have hsel : selectMethod {} s.vm c1 mk = .method mk := selectMethod_private hmethM (hpriv mk methM hnamed hmethM)
    simp only [Cond.before, Cond.holds, Cond.value, h1, hfound, hnamed, hsel, hcls, h5]
    simp; exact h6
  have cw : va_CU R s args M.1 q.1 yJ7_ensureCapacityInternal.cls idx yJ7_ensureCapacityInternal yJ7_ensureCapacityInternal bytes maxL ret (ws_ yJ7_ensureCapacityInternal bytes maxL ret) { frames := fr1, cells := mc1, slots := ms1, locals := lo1 } mc1 ms1 nA := by
    have hG2 : GoodIn lw_all (ws_ yJ7_ensureCapacityInternal bytes maxL ret) := lw_meth hq6
    have hc2 : Cond.code yJ7_ensureCapacityInternal bytes maxL ret ∈ ws_ yJ7_ensureCapacityInternal bytes maxL ret := List.mem_cons_self
    refine ⟨⟨rfl, rfl, by show fr1 + 1 ≤ R.frames; omega, by show 8 + (maxL + 11) + lo1 ≤ R.locals; omega, pay_in hts hG2, hc2⟩, hts _ hq6, hts _ hq5, ⟨hd2.1, hd2.2.1⟩, fun sig h => ?_, hts _ hq1, hts _ hq2, va_Decl.of (hts _ hq4) (hts _ hq6), hsel, hts _ hq4⟩
    have h2 := hd2.2.2
    rw [h] at h2
    exact (Option.some.inj h2).symm
  exact zRun_W (a := ((Value.ref (ad b)) :: As.map (zc ad)).toArray) (vx_runU (As := As.map (zc ad)) (rest := st.map (zc ad)) (b := ad b) (C := q.1) ⟨hc9.1, hc9.2.1, hc9.2.2.1, hc9.2.2.2.1, hts⟩ (hm ad) cw ⟨zRep.blind, hP.obj hb hc, zPre (p := p) (e := e) hP hwA⟩ rfl (by rw [List.length_map]; exact hA) hl.1 (zstk ad As st b) (zroom hst) hd ⟨by omega, by omega⟩) hn hc9 hR hmc hms hP hE ⟨hw.1, w2.2⟩ hl (zQe_kk kk) zQe_kx
/-- $VALUES.clone() -/
theorem z_clone {idx x m w : Nat} {h h1 : zSt} (hd : decode M.2.1 pc = .ok (.invokevirtual idx, 3)) (hn : pc + 3 = n) (hq1 : Cond.methodLink M.1 idx ⟨"[LSableCrown$Value;", "clone", "()Ljava/lang/Object;"⟩ ∈ lw_all) (hq2 : Cond.sameMethod "[LSableCrown$Value;" "java/lang/Object" "clone" "()Ljava/lang/Object;" ∈ lw_all) (hq3 : Cond.native ⟨"java/lang/Object", "clone", "()Ljava/lang/Object;"⟩ ∈ lw_all) (hq4 : Cond.instanceMethod ⟨"java/lang/Object", "clone", "()Ljava/lang/Object;"⟩ ∈ lw_all)
    (hq5 : Cond.selects "[LSableCrown$Value;" ⟨"[LSableCrown$Value;", "clone", "()Ljava/lang/Object;"⟩ ⟨"java/lang/Object", "clone", "()Ljava/lang/Object;"⟩ ∈ lw_all) (hq6 : Cond.castable "[LSableCrown$Value;" "java/lang/Cloneable" ∈ lw_tbl) (hk : hK h 17 = some (70, 7)) (hf : zfree h = true) (ex : x = hN h) (e : h1 = zsF (znA h 70 7) (zu1 (jF h) (hN h) (jF h 17))) (hfr : 1 ≤ fr) (hlo : (st.map fun v => v.category).sum + 14 ≤ lo)
    (kk : zW l G M fr lo m w n lv (.ref x :: st) (hK h1) (jF h1) (hI h1) (hL h1) Q) : zW l G M fr lo (1 + m) (7 + w) pc lv (.ref 17 :: st) (hK h) (jF h) (hI h) (hL h) Q := by
  subst ex; subst e; subst hn
  obtain ⟨f1, f2⟩ := zfree_ok hf
  intro p e R s m0 args below meth c9 H locs cells slots ls ad ad0 K0 hc9 hR hP hE hw hl
  have hts := hc9.2.2.2.2.1
  obtain ⟨e1, e2, e3, e4⟩ := hP.2.2.2.1 17 (by decide)
  have hcn := hP.2.2.2.2.2.2.1
  obtain ⟨g1, g2⟩ := hcn.1 17 (by decide) 70 7 (by rw [← e1]; exact hk)
  obtain ⟨cell0, z1, z2, z3⟩ := hcn.2.2.2.2.2.2.2.2.1
  rcases g2 with ⟨a, -⟩ | ⟨a, -⟩ | ⟨a, -⟩ | ⟨t, a, a2, a3, b⟩
  · omega
  · omega
  · omega
  obtain rfl : t = 6 := by omega
  obtain ⟨cell, b1, b2, b3, b4, b5, b6, b7⟩ := b.kept hP.2.2.2.2.1.2.1
  have hz0 : H[G.2.2.1 17]? = some cell0 := by rw [hP.2.2.2.2.1.2.1 _ (Array.getElem?_eq_some_iff.mp z1).1 b7]; exact z1
  cases Option.some.inj (hz0.symm.trans b1)
  have hRA := (hP.2.2.2.2.2.1.2 6 _ rfl).2
  have hnm : s.vm.findClass "[LSableCrown$Value;" = some cell0.cls := by rw [z3]; exact va_nmO hRA (by decide +kernel)
  obtain ⟨c0, t0', k1, k2, k3⟩ := Cond.castable_spec (va_Nw.use (A := args) rfl (hP.2.2.2.2.2.2.2.1 _ hq6 rfl))
  cases hnm.symm.trans k1
  have hslots : ({ cls := cell0.cls, slots := cell0.slots } : Cell) = arrV (G.1.2.2 6) 7 (fun j => va_rf ((jF h 17 j).map ad)) := by
    rw [z3]
    unfold arrV
    congr 1
    refine Array.ext (by rw [z2]; simp) (fun i h1 h2 => ?_)
    have h3 := b6 i (by omega)
    rw [Array.getElem?_eq_getElem h1] at h3
    rw [Option.some.inj h3]
    simp only [Array.getElem_ofFn]
    show zel _ _ _ _ 6 17 i = _
    unfold zel
    dsimp only
    rw [e2]
    cases hr : G.2.2.2.2.1 17 i with
    | none => rfl
    | some j => exact congrArg (fun z => Value.ref z) (hP.2.2.2.1 j (hcn.2.1 17 (by decide) i j hr)).2.2.2.symm
  have hE4 : ad 17 = G.2.2.1 17 := e4
  have hag : ∀ a, hK h a ≠ none → zu1 ad (hN h) H.size a = ad a := fun a ha => zu1_off fun e => ha (by rw [e]; exact f1)
  have hmo : ∀ a, hK h a ≠ none → zu1 (hK h) (hN h) (some (70, 7)) a ≠ none := fun a ha => by rw [zu1_off fun e => ha (by rw [e]; exact f1)]; exact ha
  intro T hT X
  have hcellT : T.heap[ad 17]? = some cell0 := by rw [hT, hE4]; exact b1
  obtain ⟨hs6, kA, hkA, comp, hkind⟩ := b2
  obtain ⟨kA', hkA', heA⟩ := X.warmed.alike.2.2 _ _ hkA
  have hkind' : kA'.kind = .array comp (zAr 6) := by rw [heA]; exact hkind
  obtain ⟨vm', X', st1⟩ := X.cloneArray hc9.1 hc9.2.2.2.1 (hts _ hq1) (hts _ hq2) (hts _ hq3) (hts _ hq4) (hts _ hq5) (a := ad 17) (cell := cell0) hcellT hs6 b3 hnm k2 k3
    (fun i v hv => by
      have hv' : (arrV (G.1.2.2 6) 7 (fun j => va_rf ((jF h 17 j).map ad))).slots[i]? = some v := by rw [← hslots]; exact hv
      have hft : fits (zAr 6) v = true := va_fit (ty := zAr 6) (fun i _ => by cases (jF h 17 i).map ad <;> rfl) i v hv'
      simpa [State.fitsSlot, State.slotType?, hkA', hkind'] using hft)
    (g := F0 m0 pc ls (.ref (ad 17) :: st.map (zc ad))) rfl (hl.1.trans hc9.2.2.1.symm) (rest := st.map (zc ad)) rfl (by rw [hc9.2.1]; exact hd) (by omega) (by show 2 * 0 + _ + 14 ≤ _; rw [zcats]; omega) (by omega) (by rw [z2]; omega) (hloader := Vm.clonesLoader_of_array hkA hkind)
  rw [hslots, z2] at X'
  generalize hH1 : H.push (arrV (G.1.2.2 6) 7 (fun j => va_rf ((jF h 17 j).map ad))) = H1
  have y1 : H1.size = H.size + 1 := by rw [← hH1, Array.size_push]
  have y2 : H1[H.size]? = some (arrV (G.1.2.2 6) 7 (fun j => va_rf ((jF h 17 j).map ad))) := by rw [← hH1, Array.getElem?_push_size]
  have o1 : ∀ q : Nat, q < H.size → H1[q]? = H[q]? := fun q hq => by rw [← hH1, Array.getElem?_push, if_neg (Nat.ne_of_lt hq)]
  have hK17 : hK h 17 ≠ none := by rw [hk]; exact fun g => nomatch g
  have hF17 : ∀ j k : Nat, jF h 17 j = some k → hK h k ≠ none := fun j k hj => hP.2.2.1 17 j k hK17 hj
  have hP' : zRep G (zu1 ad (hN h) H.size) (zu1 (hK h) (hN h) (some (70, 7))) (zu1 (jF h) (hN h) (jF h 17)) (zu1 (hI h) (hN h) (fun _ => 0)) (zu1 (hL h) (hN h) (fun _ => 0)) s H1 locs := by
    refine hP.push f2 f1 (by omega) o1 (fun a ha => ⟨zu1_off ha, zu1_off ha, zu1_off ha⟩) ?_ (fun k j hj => ?_)
    · intro c' n' hc'
      rw [zu1_same] at hc'
      cases Option.some.inj hc'
      refine Or.inr ⟨6, rfl, by decide, ?_⟩
      rw [zu1_same, y2]
      refine congrArg (fun f => some (arrV _ _ f)) (funext fun j => ?_)
      show _ = va_rf ((zu1 (jF h) (hN h) (jF h 17) (hN h) j).map (zu1 ad (hN h) H.size))
      rw [zu1_same]
      cases hr : jF h 17 j with
      | none => rfl
      | some y => exact congrArg (fun z => Value.ref z) (hag y (hF17 j y hr)).symm
    · rw [zu1_same] at hj; exact Or.inl (hF17 k j hj)
  have K9 := kk p e R s m0 args below meth c9 H1 locs (cells + 1) (slots + 7) ls (zu1 ad (hN h) H.size) ad0 K0 hc9 ⟨hR.1, hR.2.1, by omega, by omega⟩ hP' (hE.push f1) ⟨fun z hz => zwv_mono hmo (hw.1 z hz), (show zu1 (hK h) (hN h) _ (hN h) ≠ none by rw [zu1_same]; exact fun g => nomatch g), zws_mono hmo hw.2.2⟩ (by rw [zlv_ag hag hw.1]; exact hl)
  rw [List.map_cons, zst_ag hag hw.2.2] at K9
  have e9 : zc (zu1 ad (hN h) H.size) (.ref (hN h)) = .ref H.size := by show Value.ref (zu1 ad (hN h) H.size (hN h)) = _; rw [zu1_same]
  rw [e9] at K9
  obtain ⟨t, a1, a2⟩ := K9 ((T.setVm vm').pushCell (arrV (G.1.2.2 6) 7 (fun j => va_rf ((jF h 17 j).map ad)))) (by rw [← hH1, ← hT]; rfl) X'
  refine ⟨t, st1 t ?_, a2⟩
  rw [hslots, hT]
  exact a1
/-- a cast of an array of Values -/
theorem z_castV {o n0 idx : Nat} (hd : decode M.2.1 pc = .ok (.checkcast idx, 3)) (hn : pc + 3 = n) (hq1 : Cond.classLink M.1 idx "[LSableCrown$Value;" ∈ lw_all) (hk : K o = some (70, n0)) (ho : zNC ≤ o) (kk : zW l G M fr lo mc ms n lv (.ref o :: st) K F I L Q) : zW l G M fr lo mc ms pc lv (.ref o :: st) K F I L Q := by
  intro p e R s m args below meth c9 H locs cells slots ls ad ad0 K0 hc9 hR hP hE hw hl
  subst hn
  obtain ⟨z1, z0, -⟩ := hP.arrw (t := 6) (by decide) hk ho
  exact va_castE hc9.1 hc9.2.1 hc9.2.2.2.1 (hc9.2.2.2.2.1 _ hq1) ⟨_, z1, rfl, va_nmO (hP.2.2.2.2.2.1.2 6 _ z0).2 (by decide +kernel)⟩ hd (kk p e R s m args below meth c9 H locs cells slots ls ad ad0 K0 hc9 hR hP hE hw hl)
theorem z_instS {o c n0 idx : Nat} {q : vw_C} {C : String} (hd : decode M.2.1 pc = .ok (.instanceof idx, 3)) (hn : pc + 3 = n) (hk : K o = some (c, n0)) (hc : zCl[c]? = some q) (hq1 : Cond.classLink M.1 idx C ∈ lw_all) (hq2 : q.1 = C) (kk : zW l G M fr lo mc ms n lv (.int 1 :: st) K F I L Q) : zW l G M fr lo mc ms pc lv (.ref o :: st) K F I L Q := by
  intro p e R s m args below meth c9 H locs cells slots ls ad ad0 K0 hc9 hR hP hE hw hl
  subst hn; subst hq2
  exact va_instE hc9.1 hc9.2.1 hc9.2.2.2.1 (hc9.2.2.2.2.1 _ hq1) (hP.obj hk hc) hd (kk p e R s m args below meth c9 H locs cells slots ls ad ad0 K0 hc9 hR hP hE ⟨hw.1, trivial, hw.2.2⟩ hl)
/-- what such a static holds -/
theorem zRep.staR {ad : Nat → Nat} {s : State} {H : Heap} {locs : List Loc} (h : zRep G ad K F I L s H locs) {C nm d : String} {k : Nat} (hz : (C, nm, d, k) ∈ zStaR) : va_Z C nm d (zc ad (zrf (F 26 k))) (zA G) s H := by
  have h0 := (h.2.2.2.2.2.2.1.2.2.2.2.2.2.2.2.2 _ hz).kept h.2.2.2.2.1.2.1
  have e : va_rf ((G.2.2.2.2.1 26 k).map G.2.2.1) = zc ad (zrf (F 26 k)) := by
    rw [(h.2.2.2.1 26 (by decide)).2.1]
    cases hr : G.2.2.2.2.1 26 k with
    | none => rfl
    | some j => exact congrArg Value.ref (h.2.2.2.1 j (h.2.2.2.2.2.2.1.2.1 26 (by decide) k j hr)).2.2.2.symm
  rw [← e]
  exact h0
theorem z_getsR {idx k : Nat} {C nm d : String} (hd : decode M.2.1 pc = .ok (.getstatic idx, 3)) (hn : pc + 3 = n) (hz : (C, nm, d, k) ∈ zStaR) (hq : Cond.fieldLink M.1 idx C nm d ∈ lw_all) (hK : K 26 ≠ none) (kk : zW l G M fr lo mc ms n lv (zrf (F 26 k) :: st) K F I L Q) : zW l G M fr lo mc ms pc lv st K F I L Q := by
  intro p e R s m args below meth c9 H locs cells slots ls ad ad0 K0 hc9 hR hP hE hw hl
  subst hn
  have hK2 := hP.2.2.1
  obtain ⟨cf, kf, fi, f, a, cell, h1, h2, h3, h4, h5, h6, h7, h8⟩ := hP.staR hz
  refine W.gets hc9.1 hc9.2.1 hc9.2.2.2.1 (hc9.2.2.2.2.1 _ hq) h1 h2 h3 h4 h5 (fun e => by rw [e] at h6; cases h6) h7 rfl hd ?_
  exact kk p e R s m args below meth c9 H locs cells slots ls ad ad0 K0 hc9 hR hP hE ⟨hw.1, (by
    cases hr : F 26 k with
    | none => trivial
    | some j => exact hK2 26 k j hK hr), hw.2⟩ hl
end Z12
