/-! Z6: contracts, calls, throws, copies -/
/-- a frame with x thrown over it at the place pc -/
def zX (l : Launch) (G : zGt) (M : zM) (fr lo mc ms pc : Nat) (lv : List (Nat × Value)) (x : String × Nat) (K : zKd) (F : zFd) (I : zId) (L : zLd) (Q : zQt) : Prop :=
  ∀ (p : Program) (e : Env) (R : Room) (s : State) (m : MethodId) (args : Array Value) (below : List Frame) (meth : Method) (c : Code) (H : Heap) (locs : List Loc) (cells slots : Nat) (ls : Array Slot) (ad ad0 : Nat → Nat) (K0 : zKd) (q : Addr) (ce : Cell) (rest : List Value),
    zCtx l M p s m args meth c → (fr ≤ R.frames ∧ lo ≤ R.locals ∧ cells + mc ≤ R.cells ∧ slots + ms ≤ R.slots) → zRep G ad K F I L s H locs → zExt K0 ad0 K ad → (∀ z ∈ lv, zwv K z.2) → lv_has ls M.2.2.1 (lv.map fun q => (q.1, zc ad q.2)) →
    (x.1 = "SableCrown$Fault" → q = ad x.2 ∧ K x.2 = some (8, 0)) → H[q]? = some ce → ce.vm = .none → s.vm.findClass x.1 = some ce.cls →
    vx_W p l e R s m args below meth c H locs cells slots (vx_MQ below (zQc G K0 ad0 Q) (zXC G K0 ad0 Q) args s R.cells R.slots (zA G)) (F0 m pc ls rest) q
theorem zHp.grow {G : zGt} {ad : Nat → Nat} {K : zKd} {F : zFd} {I : zId} {L : zLd} {H H1 : Heap} (h : zHp G ad K F I L H) (hs : H.size ≤ H1.size) (hq : ∀ q : Nat, q < H.size → H1[q]? = H[q]?) : zHp G ad K F I L H1 := by
  obtain ⟨h1, h2, h3, h4, h5, h6⟩ := h
  refine ⟨fun o ho hk => ⟨fun c n hc => ?_, (h1 o ho hk).2⟩, h2, h3, h4, Nat.le_trans h5 hs, fun q g1 g2 => ?_⟩
  · rcases (h1 o ho hk).1 c n hc with ⟨g1, g2⟩ | ⟨t, g1, g2, g3⟩
    · have hl : ad o < H.size := by
        obtain ⟨cell, e, -⟩ := g2
        exact (Array.getElem?_eq_some_iff.mp e).1
      exact Or.inl ⟨⟨g1.1, g1.2.kept (hq _ hl)⟩, g2.kept (hq _ hl)⟩
    · exact Or.inr ⟨t, g1, g2, by rw [hq _ (Array.getElem?_eq_some_iff.mp g3).1]; exact g3⟩
  · rw [hq q (Nat.lt_of_lt_of_le g1 h5)]
    exact h6 q g1 g2
section Z6
variable {l : Launch} {G : zGt} {M : zM} {fr lo mc ms pc n : Nat} {lv lv' : List (Nat × Value)} {st : List Value} {K : zKd} {F : zFd} {I : zId} {L : zLd} {Q : zQt}
/-- the callee's store, seen from the caller -/
theorem zRep.back {ad ad' : Nat → Nat} {K' : zKd} {F' : zFd} {I' : zId} {L' : zLd} {s : State} {H H' : Heap} {locs locs' : List Loc} (h : zRep G ad K F I L s H locs) (g : zHp G ad' K' F' I' L' H') (hl : ∀ z ∈ locs', zA G z.base) : zRep G ad' K' F' I' L' s H' locs' :=
  ⟨g.1, g.2.1, g.2.2.1, g.2.2.2.1, ⟨g.2.2.2.2.1, g.2.2.2.2.2, hl⟩, h.2.2.2.2.2⟩
theorem zRep.blind {ad : Nat → Nat} {As : List Value} : FrameBlind (fun av U => av = (As.map (zc ad)).toArray ∧ zRep G ad K F I L U U.heap [] ∧ zws K As) := by
  intro a U g mk q
  obtain ⟨q0, q1, q2⟩ := q
  exact ⟨q0, q1.warm (U := U.calling g mk a) (State.WarmedH.refl U) (fun _ h => nomatch h), q2⟩
/-- what a run of a callee gives its caller -/
theorem zRun_W {p : Program} {e : Env} {R : Room} {s : State} {m : MethodId} {args a : Array Value} {below : List Frame} {meth : Method} {c : Code} {H : Heap} {locs : List Loc} {cells slots mc1 ms1 mc2 ms2 : Nat} {ls : Array Slot} {ad ad0 : Nat → Nat} {K0 : zKd} {st0 : List Value} {Q1 : zQt}
    (hr : vx_Run p l e R s m args below meth c H locs cells slots mc1 ms1 (F0 m pc ls st0) (st.map (zc ad)) (zQc G K ad Q1 a) (zXC G K ad Q1) (zA G)) (hn : pc + 3 = n) (hc9 : zCtx l M p s m args meth c) (hR : fr ≤ R.frames ∧ lo ≤ R.locals ∧ cells + mc ≤ R.cells ∧ slots + ms ≤ R.slots) (hmc : mc2 + mc1 ≤ mc) (hms : ms2 + ms1 ≤ ms) (hP : zRep G ad K F I L s H locs) (hE : zExt K0 ad0 K ad) (hw : zwf K lv st) (hl : lv_has ls M.2.2.1 (lv.map fun q => (q.1, zc ad q.2)))
    (kk : ∀ v K' F' I' L', Q1 (.inl v) K' F' I' L' → zW l G M fr lo mc2 ms2 n lv (v.toList ++ st) K' F' I' L' Q)
    (kx : ∀ x K' F' I' L', Q1 (.inr x) K' F' I' L' → zX l G M fr lo mc2 ms2 pc lv x K' F' I' L' Q) :
    W p l e R s m args below meth c H locs cells slots (vx_MQ below (zQc G K0 ad0 Q) (zXC G K0 ad0 Q) args s R.cells R.slots (zA G)) (F0 m pc ls st0) := by
  subst hn
  intro T hT X
  rcases hr T hT X with ⟨v, st₀, t, T', L1, h0, X', hL, e1, e2, ⟨v', K', F', I', L', ad', ev, hP', hE', hv', hq'⟩, sg⟩ | ⟨q, st₀, t, T', L1, E, ce, h0, X', hL, e1, e2, ⟨i, K', F', I', L', ad', hi, hP', hE', hq'⟩, hce, hcv, hcl, sg⟩
  · cases Outcome.returned.inj ev
    rw [← e1] at hP'
    have hP2 := hP.back hP' (locs' := locs ++ L1) (fun z hz => by
      rcases List.mem_append.mp hz with g | g
      · exact hP.2.2.2.2.1.2.2 z g
      · exact hL z g)
    have hag := hE'.ag
    have hmo := hE'.mono
    have hst : zws K' (v'.toList ++ st) := by
      cases v' with
      | none => exact zws_mono hmo hw.2
      | some x => exact ⟨hv' x rfl, zws_mono hmo hw.2⟩
    have K9 := kk v' K' F' I' L' hq' p e R s m args below meth c T'.heap (locs ++ L1) (cells + mc1) (slots + ms1) ls ad' ad0 K0 hc9 ⟨hR.1, hR.2.1, by omega, by omega⟩ hP2 (hE.trans hE') ⟨fun z hz => zwv_mono hmo (hw.1 z hz), hst⟩ (by rw [zlv_ag hag hw.1]; exact hl)
    obtain ⟨t2, a1, b1⟩ := K9 T' rfl X'
    refine ⟨t2, sg t2 ?_, b1⟩
    have : (v'.map (zc ad')).toList ++ st.map (zc ad) = (v'.toList ++ st).map (zc ad') := by
      rw [List.map_append, zst_ag hag hw.2]
      cases v' <;> rfl
    rw [this]
    exact a1
  · rw [← e1] at hP'
    have hP2 := hP.back hP' (locs' := locs ++ L1) (fun z hz => by
      rcases List.mem_append.mp hz with g | g
      · exact hP.2.2.2.2.1.2.2 z g
      · exact hL z g)
    have hag := hE'.ag
    have hmo := hE'.mono
    have K9 := kx (E, i) K' F' I' L' hq' p e R s m args below meth c T'.heap (locs ++ L1) (cells + mc1) (slots + ms1) ls ad' ad0 K0 q ce (st.map (zc ad)) hc9 ⟨hR.1, hR.2.1, by omega, by omega⟩ hP2 (hE.trans hE') (fun z hz => zwv_mono hmo (hw.1 z hz)) (by rw [zlv_ag hag hw.1]; exact hl) hi (by rw [e1]; exact hce) hcv hcl
    obtain ⟨t2, a1, b1⟩ := K9 T' rfl X'
    exact ⟨t2, sg.trans a1, b1⟩
/-- not caught: it goes on to the caller -/
theorem z_out {x : String × Nat} (hh : M.2.2.2.2.2 = []) (hQ : Q (.inr x) K F I L) : zX l G M fr lo mc ms pc lv x K F I L Q := by
  intro p e R s m args below meth c H locs cells slots ls ad ad0 K0 q ce rest hc9 hR hP hE hw hl hx hce hcv hcl
  refine vx_out (E := x.1) (fun z hz => ?_) hc9.2.2.2.2.2.2.1 hce hcv hcl (fun t ht hA => ?_) hP.2.2.2.2.1.2.2 (by omega) (by omega)
  · rw [hc9.2.2.2.2.2.2.2.2.1, hh] at hz
    cases hz
  · exact ⟨x.2, K, F, I, L, ad, hx, by rw [ht]; exact hP.hp, hE, hQ⟩
/-! a method's contract out of its walk -/
theorem zsl (ad : Nat → Nat) (As : List Value) : (lg_sl (As.map (zc ad))).length = (lg_sl As).length := by
  induction As with
  | nil => rfl
  | cons v r ih =>
    simp only [lg_sl, List.map_cons, List.flatMap_cons, List.length_append, zc_cat] at ih ⊢
    rw [ih]
    split <;> rfl
theorem zargs (ad : Nat → Nat) : ∀ (As : List Value) (k : Nat), lv_args k (As.map (zc ad)) = (lv_args k As).map fun q => (q.1, zc ad q.2) := by
  intro As
  induction As with
  | nil => intro k; rfl
  | cons v r ih => intro k; simp only [List.map_cons, lv_args, zc_cat, ih]
theorem zargs_wf {K : zKd} : ∀ (As : List Value) (k : Nat), zws K As → ∀ q ∈ lv_args k As, zwv K q.2 := by
  intro As
  induction As with
  | nil => intro k _ q hq; cases hq
  | cons v r ih =>
    intro k h q hq
    rcases List.mem_cons.mp hq with e | e
    · rw [e]; exact h.1
    · exact ih _ h.2 q e
theorem zMet.of {y : MethodName} {bytes : ByteArray} {maxL : Nat} {ret : Option FieldType} {As : List Value} (hy : plainName y.cls = true) (htr : l.stackTraces = false) (hsl : (lg_sl As).length ≤ maxL)
    (h : zW l G (y.cls, bytes, maxL, ret, y.name, []) fr lo mc ms 0 (lv_args 0 As) [] K F I L Q) : zMet l G y (ws_ y bytes maxL ret) fr lo mc ms As K F I L Q := by
  intro ad
  refine vx_ofW (cc := bytes) (maxL := maxL) (ret := ret) hy rfl ?_
  intro p e s m args below meth c s₁ B hml hno hv
  obtain ⟨rfl, hP, hws⟩ := hv
  have hts := atoms_spec (ws := ws_ y bytes maxL ret) B.pre
  have hts : ∀ w ∈ lw_all, w.before _ s = true := fun w h => hts w (List.mem_cons_of_mem _ h)
  rw [lg_entry_eq]
  have hl := lv_entry (As.map (zc ad)) (n := maxL) (by rw [zsl]; exact hsl)
  rw [zargs] at hl
  refine h p e _ s m _ below meth c s.heap [] 0 0 _ ad ad K ⟨B.exec, B.bytes, hml, findClass_of_methodNamed B.named, hts, B.returns, B.notSynchronized, (name_of_methodNamed B.named B.method).1, ?_, htr⟩ ⟨Nat.le_refl _, Nat.le_refl _, ?_, ?_⟩ hP zExt.refl ⟨zargs_wf As 0 hws, trivial⟩ hl
  · cases hc : c.exceptionTable.toList with
    | nil => rfl
    | cons a b => exact (hno a (by rw [hc]; exact List.mem_cons_self)).elim
  · exact Nat.le_of_eq (Nat.zero_add _)
  · exact Nat.le_of_eq (Nat.zero_add _)
/-- .. of a method with handlers -/
theorem zMet.ofH {y : MethodName} {bytes : ByteArray} {maxL : Nat} {ret : Option FieldType} {hh : List (Nat × Nat × Nat × Nat)} {As : List Value} (hy : plainName y.cls = true) (htr : l.stackTraces = false) (hsl : (lg_sl As).length ≤ maxL)
    (h : zW l G (y.cls, bytes, maxL, ret, y.name, hh) fr lo mc ms 0 (lv_args 0 As) [] K F I L Q) : zMet l G y (wsW_ y bytes maxL ret hh) fr lo mc ms As K F I L Q := by
  intro ad
  refine vx_ofWH (cc := bytes) (maxL := maxL) (ret := ret) (hh := hh) hy rfl ?_
  intro p e s m args below meth c s₁ B hml hv
  obtain ⟨rfl, hP, hws⟩ := hv
  have hts := atoms_spec (ws := wsW_ y bytes maxL ret hh) B.pre
  have htab := vx_table (x := y) B (hts _ List.mem_cons_self)
  have hts : ∀ w ∈ lw_all, w.before _ s = true := fun w h => hts w (List.mem_cons_of_mem _ h)
  rw [lg_entry_eq]
  have hl := lv_entry (As.map (zc ad)) (n := maxL) (by rw [zsl]; exact hsl)
  rw [zargs] at hl
  exact h p e _ s m _ below meth c s.heap [] 0 0 _ ad ad K ⟨B.exec, B.bytes, hml, findClass_of_methodNamed B.named, hts, B.returns, B.notSynchronized, (name_of_methodNamed B.named B.method).1, htab, htr⟩ ⟨Nat.le_refl _, Nat.le_refl _, Nat.le_of_eq (Nat.zero_add _), Nat.le_of_eq (Nat.zero_add _)⟩ hP zExt.refl ⟨zargs_wf As 0 hws, trivial⟩ hl
/-! calls -/
theorem zPre {p : Program} {e : Env} {ad : Nat → Nat} {s : State} {H : Heap} {locs : List Loc} {As : List Value} (hP : zRep G ad K F I L s H locs) (hws : zws K As) : ∀ U : State, U.heap = H → s.WarmedH U.vm → ((As.map (zc ad)).toArray = (As.map (zc ad)).toArray ∧ zRep G ad K F I L U U.heap [] ∧ zws K As) :=
  fun U hU hW => ⟨rfl, by rw [hU]; exact hP.warm hW (fun _ h => nomatch h), hws⟩
theorem zws_app {K : zKd} : ∀ {a b : List Value}, zws K (a ++ b) → zws K a ∧ zws K b := by
  intro a
  induction a with
  | nil => intro b h; exact ⟨trivial, h⟩
  | cons v r ih => intro b h; exact ⟨⟨h.1, (ih h.2).1⟩, (ih h.2).2⟩
theorem zws_mem {K : zKd} : ∀ {a : List Value}, zws K a ↔ ∀ v ∈ a, zwv K v := by
  intro a
  induction a with
  | nil => exact ⟨fun _ v h => (nomatch h), fun _ => trivial⟩
  | cons x r ih => exact ⟨fun h v hv => by
      rcases List.mem_cons.mp hv with e | e
      · rw [e]; exact h.1
      · exact ih.mp h.2 v e, fun h => ⟨h x List.mem_cons_self, ih.mpr fun v hv => h v (List.mem_cons_of_mem _ hv)⟩⟩
theorem zws_rev {K : zKd} {a : List Value} (h : zws K a.reverse) : zws K a := zws_mem.mpr fun v hv => zws_mem.mp h v (List.mem_reverse.mpr hv)
theorem zstk (ad : Nat → Nat) (As st : List Value) (b : Nat) : (As.reverse ++ .ref b :: st).map (zc ad) = (As.map (zc ad)).reverse ++ .ref (ad b) :: st.map (zc ad) := by
  rw [List.map_append, List.map_reverse]
  rfl
theorem zstkS (ad : Nat → Nat) (As st : List Value) : (As.reverse ++ st).map (zc ad) = (As.map (zc ad)).reverse ++ st.map (zc ad) := by
  rw [List.map_append, List.map_reverse]
theorem zroom {ls : Array Slot} {m : MethodId} {ad : Nat → Nat} {st0 st : List Value} (h : (st.map fun v => v.category).sum ≤ 8) : 2 * (F0 m pc ls st0).monitorRoom + ((st.map (zc ad)).map fun v => v.category).sum ≤ 8 := by
  rw [zcats]
  exact lv_room h
theorem z_callV {idx nA fr1 lo1 mc1 ms1 mc2 ms2 maxL b c n0 : Nat} {y : MethodName} {bytes : ByteArray} {ret : Option FieldType} {C : String} {As st0 : List Value} {q : vw_C} {Q1 : zQt} (hm : zMet l G y (ws_ y bytes maxL ret) fr1 lo1 mc1 ms1 (.ref b :: As) K F I L Q1) (hd : decode M.2.1 pc = .ok (.invokevirtual idx, 3)) (hn : pc + 3 = n) (hG : GoodIn lw_all (wsV M.1 idx C y (ws_ y bytes maxL ret)))
    (hy : y.cls = C ∧ y.cls ≠ "java/lang/invoke/MethodHandle" ∧ y.cls ≠ "java/lang/invoke/VarHandle" ∧ (parseMethodDescriptor y.desc).map (fun d => d.parameters.length) = some nA) (hA : As.length = nA) (hR1 : fr1 + 1 ≤ fr ∧ 8 + (maxL + 11) + lo1 ≤ lo) (hb : K b = some (c, n0)) (hc : zCl[c]? = some q) (hq : q.1 = C) (hs : st0 = As.reverse ++ .ref b :: st) (hst : (st.map fun v => v.category).sum ≤ 8) (hmc : mc2 + mc1 ≤ mc) (hms : ms2 + ms1 ≤ ms)
    (kk : ∀ v K' F' I' L', Q1 (.inl v) K' F' I' L' → zW l G M fr lo mc2 ms2 n lv (v.toList ++ st) K' F' I' L' Q)
    (kx : ∀ x K' F' I' L', Q1 (.inr x) K' F' I' L' → zX l G M fr lo mc2 ms2 pc lv x K' F' I' L' Q) : zW l G M fr lo mc ms pc lv st0 K F I L Q := by
  intro p e R s m args below meth c9 H locs cells slots ls ad ad0 K0 hc9 hR hP hE hw hl
  subst hs
  subst hq
  obtain ⟨w1, w2⟩ := zws_app hw.2
  have hwA : zws K (.ref b :: As) := ⟨w2.1, zws_rev w1⟩
  refine zRun_W (a := ((Value.ref (ad b)) :: As.map (zc ad)).toArray) (vx_runV (As := As.map (zc ad)) (rest := st.map (zc ad)) (b := ad b) (C := q.1) ⟨hc9.1, hc9.2.1, hc9.2.2.1, hc9.2.2.2.1, hc9.2.2.2.2.1⟩ (hm ad) (cwV nA hc9.2.2.2.2.1 hG rfl rfl rfl hy ⟨by show fr1 + 1 ≤ R.frames; omega, by show 8 + (maxL + 11) + lo1 ≤ R.locals; omega⟩) ⟨zRep.blind, hP.obj hb hc, zPre (p := p) (e := e) hP hwA⟩ rfl (by rw [List.length_map]; exact hA) hl.1 (zstk ad As st b) (zroom hst) hd ⟨by omega, by omega⟩) hn hc9 hR hmc hms hP hE ⟨hw.1, w2.2⟩ hl kk kx
theorem z_callS {idx nA fr1 lo1 mc1 ms1 mc2 ms2 maxL : Nat} {y : MethodName} {bytes : ByteArray} {ret : Option FieldType} {As st0 : List Value} {Q1 : zQt} (hm : zMet l G y (ws_ y bytes maxL ret) fr1 lo1 mc1 ms1 As K F I L Q1) (hd : decode M.2.1 pc = .ok (.invokestatic idx, 3)) (hn : pc + 3 = n) (hG : GoodIn lw_all (va_wsS M.1 idx y (ws_ y bytes maxL ret)))
    (hy : y.cls ≠ "java/lang/invoke/MethodHandle" ∧ y.cls ≠ "java/lang/invoke/VarHandle" ∧ (parseMethodDescriptor y.desc).map (fun d => d.parameters.length) = some nA) (hA : As.length = nA) (hR1 : fr1 + 1 ≤ fr ∧ 8 + (maxL + 11) + lo1 ≤ lo) (hs : st0 = As.reverse ++ st) (hst : (st.map fun v => v.category).sum ≤ 8) (hmc : mc2 + mc1 ≤ mc) (hms : ms2 + ms1 ≤ ms)
    (kk : ∀ v K' F' I' L', Q1 (.inl v) K' F' I' L' → zW l G M fr lo mc2 ms2 n lv (v.toList ++ st) K' F' I' L' Q)
    (kx : ∀ x K' F' I' L', Q1 (.inr x) K' F' I' L' → zX l G M fr lo mc2 ms2 pc lv x K' F' I' L' Q) : zW l G M fr lo mc ms pc lv st0 K F I L Q := by
  intro p e R s m args below meth c9 H locs cells slots ls ad ad0 K0 hc9 hR hP hE hw hl
  subst hs
  obtain ⟨w1, w2⟩ := zws_app hw.2
  refine zRun_W (a := (As.map (zc ad)).toArray) (vx_runS (As := As.map (zc ad)) (rest := st.map (zc ad)) ⟨hc9.1, hc9.2.1, hc9.2.2.1, hc9.2.2.2.1, hc9.2.2.2.2.1⟩ (hm ad) (va_cwS nA hc9.2.2.2.2.1 hG rfl rfl rfl hy ⟨by show fr1 + 1 ≤ R.frames; omega, by show 8 + (maxL + 11) + lo1 ≤ R.locals; omega⟩) ⟨zRep.blind, zPre (p := p) (e := e) hP (zws_rev w1)⟩ rfl (by rw [List.length_map]; exact hA) hl.1 (zstkS ad As st) (zroom hst) hd ⟨by omega, by omega⟩) hn hc9 hR hmc hms hP hE ⟨hw.1, w2⟩ hl kk kx
theorem z_callI {idx nA fr1 lo1 mc1 ms1 mc2 ms2 maxL b : Nat} {y : MethodName} {bytes : ByteArray} {As st0 : List Value} {Q1 : zQt} (hm : zMet l G y (ws_ y bytes maxL none) fr1 lo1 mc1 ms1 (.ref b :: As) K F I L Q1) (hd : decode M.2.1 pc = .ok (.invokespecial idx, 3)) (hn : pc + 3 = n) (hq0 : Cond.code y bytes maxL none ∈ lw_all) (hq1 : Cond.initialized y.cls ∈ lw_all) (hq2 : Cond.methodLink M.1 idx y ∈ lw_all) (hq3 : Cond.instanceMethod y ∈ lw_all) (hy1 : y.name = "<init>")
    (hy : y.cls ≠ "java/lang/invoke/MethodHandle" ∧ y.cls ≠ "java/lang/invoke/VarHandle" ∧ (parseMethodDescriptor y.desc).map (fun d => d.parameters.length) = some nA) (hA : As.length = nA) (hR1 : fr1 + 1 ≤ fr ∧ 8 + (maxL + 11) + lo1 ≤ lo) (hs : st0 = As.reverse ++ .ref b :: st) (hst : (st.map fun v => v.category).sum ≤ 8) (hmc : mc2 + mc1 ≤ mc) (hms : ms2 + ms1 ≤ ms)
    (kk : ∀ v K' F' I' L', Q1 (.inl v) K' F' I' L' → zW l G M fr lo mc2 ms2 n lv (v.toList ++ st) K' F' I' L' Q)
    (kx : ∀ x K' F' I' L', Q1 (.inr x) K' F' I' L' → zX l G M fr lo mc2 ms2 pc lv x K' F' I' L' Q) : zW l G M fr lo mc ms pc lv st0 K F I L Q := by
  intro p e R s m args below meth c9 H locs cells slots ls ad ad0 K0 hc9 hR hP hE hw hl
  subst hs
  have hts := hc9.2.2.2.2.1
  obtain ⟨w1, w2⟩ := zws_app hw.2
  have hwA : zws K (.ref b :: As) := ⟨w2.1, zws_rev w1⟩
  refine zRun_W (a := ((Value.ref (ad b)) :: As.map (zc ad)).toArray) (vx_runI (As := As.map (zc ad)) (rest := st.map (zc ad)) (b := ad b) ⟨hc9.1, hc9.2.1, hc9.2.2.1, hc9.2.2.2.1, hts⟩ (hm ad) (cwI nA hts (lw_meth hq0) rfl rfl rfl (hts _ hq1) (hts _ hq2) (hts _ hq3) hy1 hy ⟨by show fr1 + 1 ≤ R.frames; omega, by show 8 + (maxL + 11) + lo1 ≤ R.locals; omega⟩) ⟨zRep.blind, zPre (p := p) (e := e) hP hwA⟩ rfl (by rw [List.length_map]; exact hA) hl.1 (zstk ad As st b) (zroom hst) hd ⟨by omega, by omega⟩) hn hc9 hR hmc hms hP hE ⟨hw.1, w2.2⟩ hl kk kx
/-- a nest mate's private constructor -/
theorem z_callIN {idx nA fr1 lo1 mc1 ms1 mc2 ms2 maxL b : Nat} {host : String} {y : MethodName} {bytes : ByteArray} {As st0 : List Value} {Q1 : zQt} (hm : zMet l G y (ws_ y bytes maxL none) fr1 lo1 mc1 ms1 (.ref b :: As) K F I L Q1) (hd : decode M.2.1 pc = .ok (.invokespecial idx, 3)) (hn : pc + 3 = n) (hq0 : Cond.code y bytes maxL none ∈ lw_all) (hq1 : Cond.initialized y.cls ∈ lw_all) (hq2 : Cond.methodLinkNest M.1 idx y host ∈ lw_tbl) (hq3 : Cond.instanceMethod y ∈ lw_all) (hy1 : y.name = "<init>")
    (hy : y.cls ≠ "java/lang/invoke/MethodHandle" ∧ y.cls ≠ "java/lang/invoke/VarHandle" ∧ (parseMethodDescriptor y.desc).map (fun d => d.parameters.length) = some nA) (hA : As.length = nA) (hR1 : fr1 + 1 ≤ fr ∧ 8 + (maxL + 11) + lo1 ≤ lo) (hs : st0 = As.reverse ++ .ref b :: st) (hst : (st.map fun v => v.category).sum ≤ 8) (hmc : mc2 + mc1 ≤ mc) (hms : ms2 + ms1 ≤ ms)
    (kk : ∀ v K' F' I' L', Q1 (.inl v) K' F' I' L' → zW l G M fr lo mc2 ms2 n lv (v.toList ++ st) K' F' I' L' Q)
    (kx : ∀ x K' F' I' L', Q1 (.inr x) K' F' I' L' → zX l G M fr lo mc2 ms2 pc lv x K' F' I' L' Q) : zW l G M fr lo mc ms pc lv st0 K F I L Q := by
  intro p e R s m args below meth c9 H locs cells slots ls ad ad0 K0 hc9 hR hP hE hw hl
  subst hs
  have hts := hc9.2.2.2.2.1
  obtain ⟨w1, w2⟩ := zws_app hw.2
  have hwA : zws K (.ref b :: As) := ⟨w2.1, zws_rev w1⟩
  refine zRun_W (a := ((Value.ref (ad b)) :: As.map (zc ad)).toArray) (vx_runIN (host := host) (As := As.map (zc ad)) (rest := st.map (zc ad)) (b := ad b) ⟨hc9.1, hc9.2.1, hc9.2.2.1, hc9.2.2.2.1, hts⟩ (hm ad) ⟨(va_cnB nA hts (lw_meth hq0) rfl rfl rfl (hP.2.2.2.2.2.2.2.1 _ hq2 rfl) (hts _ hq1) hy ⟨by show fr1 + 1 ≤ R.frames; omega, by show 8 + (maxL + 11) + lo1 ≤ R.locals; omega⟩), hy1, hts _ hq3⟩ ⟨zRep.blind, zPre (p := p) (e := e) hP hwA⟩ rfl (by rw [List.length_map]; exact hA) hl.1 (zstk ad As st b) (zroom hst) hd ⟨by omega, by omega⟩) hn hc9 hR hmc hms hP hE ⟨hw.1, w2.2⟩ hl kk kx
/-- a call of a method that has handlers: virtual; static -/
theorem z_callVH {idx nA fr1 lo1 mc1 ms1 mc2 ms2 maxL b c n0 : Nat} {y : MethodName} {bytes : ByteArray} {ret : Option FieldType} {hh : List (Nat × Nat × Nat × Nat)} {C : String} {As st0 : List Value} {q : vw_C} {Q1 : zQt} (hm : zMet l G y (wsW_ y bytes maxL ret hh) fr1 lo1 mc1 ms1 (.ref b :: As) K F I L Q1) (hd : decode M.2.1 pc = .ok (.invokevirtual idx, 3)) (hn : pc + 3 = n) (hG : GoodIn lw_all (wsV M.1 idx C y (wsW_ y bytes maxL ret hh)))
    (hy : y.cls = C ∧ y.cls ≠ "java/lang/invoke/MethodHandle" ∧ y.cls ≠ "java/lang/invoke/VarHandle" ∧ (parseMethodDescriptor y.desc).map (fun d => d.parameters.length) = some nA) (hA : As.length = nA) (hR1 : fr1 + 1 ≤ fr ∧ 8 + (maxL + 11) + lo1 ≤ lo) (hb : K b = some (c, n0)) (hc : zCl[c]? = some q) (hq : q.1 = C) (hs : st0 = As.reverse ++ .ref b :: st) (hst : (st.map fun v => v.category).sum ≤ 8) (hmc : mc2 + mc1 ≤ mc) (hms : ms2 + ms1 ≤ ms)
    (kk : ∀ v K' F' I' L', Q1 (.inl v) K' F' I' L' → zW l G M fr lo mc2 ms2 n lv (v.toList ++ st) K' F' I' L' Q)
    (kx : ∀ x K' F' I' L', Q1 (.inr x) K' F' I' L' → zX l G M fr lo mc2 ms2 pc lv x K' F' I' L' Q) : zW l G M fr lo mc ms pc lv st0 K F I L Q := by
  intro p e R s m args below meth c9 H locs cells slots ls ad ad0 K0 hc9 hR hP hE hw hl
  subst hs
  subst hq
  obtain ⟨w1, w2⟩ := zws_app hw.2
  have hwA : zws K (.ref b :: As) := ⟨w2.1, zws_rev w1⟩
  refine zRun_W (a := ((Value.ref (ad b)) :: As.map (zc ad)).toArray) (vx_runVX (hh := hh) (As := As.map (zc ad)) (rest := st.map (zc ad)) (b := ad b) (C := q.1) ⟨hc9.1, hc9.2.1, hc9.2.2.1, hc9.2.2.2.1, hc9.2.2.2.2.1⟩ (hm ad) (vx_cwVW nA hc9.2.2.2.2.1 hG rfl rfl rfl hy ⟨by show fr1 + 1 ≤ R.frames; omega, by show 8 + (maxL + 11) + lo1 ≤ R.locals; omega⟩) ⟨zRep.blind, hP.obj hb hc, zPre (p := p) (e := e) hP hwA⟩ rfl (by rw [List.length_map]; exact hA) hl.1 (zstk ad As st b) (zroom hst) hd ⟨by omega, by omega⟩) hn hc9 hR hmc hms hP hE ⟨hw.1, w2.2⟩ hl kk kx
theorem z_callSH {idx nA fr1 lo1 mc1 ms1 mc2 ms2 maxL : Nat} {y : MethodName} {bytes : ByteArray} {ret : Option FieldType} {hh : List (Nat × Nat × Nat × Nat)} {As st0 : List Value} {Q1 : zQt} (hm : zMet l G y (wsW_ y bytes maxL ret hh) fr1 lo1 mc1 ms1 As K F I L Q1) (hd : decode M.2.1 pc = .ok (.invokestatic idx, 3)) (hn : pc + 3 = n) (hG : GoodIn lw_all (va_wsS M.1 idx y (wsW_ y bytes maxL ret hh)))
    (hy : y.cls ≠ "java/lang/invoke/MethodHandle" ∧ y.cls ≠ "java/lang/invoke/VarHandle" ∧ (parseMethodDescriptor y.desc).map (fun d => d.parameters.length) = some nA) (hA : As.length = nA) (hR1 : fr1 + 1 ≤ fr ∧ 8 + (maxL + 11) + lo1 ≤ lo) (hs : st0 = As.reverse ++ st) (hst : (st.map fun v => v.category).sum ≤ 8) (hmc : mc2 + mc1 ≤ mc) (hms : ms2 + ms1 ≤ ms)
    (kk : ∀ v K' F' I' L', Q1 (.inl v) K' F' I' L' → zW l G M fr lo mc2 ms2 n lv (v.toList ++ st) K' F' I' L' Q)
    (kx : ∀ x K' F' I' L', Q1 (.inr x) K' F' I' L' → zX l G M fr lo mc2 ms2 pc lv x K' F' I' L' Q) : zW l G M fr lo mc ms pc lv st0 K F I L Q := by
  intro p e R s m args below meth c9 H locs cells slots ls ad ad0 K0 hc9 hR hP hE hw hl
  subst hs
  obtain ⟨w1, w2⟩ := zws_app hw.2
  refine zRun_W (a := (As.map (zc ad)).toArray) (vx_runSX (hh := hh) (As := As.map (zc ad)) (rest := st.map (zc ad)) ⟨hc9.1, hc9.2.1, hc9.2.2.1, hc9.2.2.2.1, hc9.2.2.2.2.1⟩ (hm ad) (vx_cwSW nA hc9.2.2.2.2.1 hG rfl rfl rfl hy ⟨by show fr1 + 1 ≤ R.frames; omega, by show 8 + (maxL + 11) + lo1 ≤ R.locals; omega⟩) ⟨zRep.blind, zPre (p := p) (e := e) hP (zws_rev w1)⟩ rfl (by rw [List.length_map]; exact hA) hl.1 (zstkS ad As st) (zroom hst) hd ⟨by omega, by omega⟩) hn hc9 hR hmc hms hP hE ⟨hw.1, w2⟩ hl kk kx
/-- an object that was made is thrown -/
theorem z_athrow {i : Nat} {q : vw_C} {c n0 : Nat} (hd : decode M.2.1 pc = .ok (.athrow, 1)) (hi : zNC ≤ i) (hk : K i = some (c, n0)) (hc : zCl[c]? = some q) (hF : q.1 = "SableCrown$Fault" → K i = some (8, 0)) (kk : zX l G M fr lo mc ms pc lv (q.1, i) K F I L Q) : zW l G M fr lo mc ms pc lv (.ref i :: st) K F I L Q := by
  intro p e R s m args below meth c9 H locs cells slots ls ad ad0 K0 hc9 hR hP hE hw hl
  rcases (hP.ok hi hk).1 c n0 hk with ⟨-, cell, q1, q2, q3, q4⟩ | ⟨t, a, -⟩
  · exact vx_athrow (q := ad i) hc9.1 hc9.2.1 hd (kk p e R s m args below meth c9 H locs cells slots ls ad ad0 K0 (ad i) cell _ hc9 hR hP hE hw.1 hl (fun h => ⟨rfl, hF h⟩) q1 q3 (by rw [q2]; exact (hP.2.2.2.2.2.1.1 c q hc).2.1))
  · have := zCl_lt hc
    omega
/-- throw new E() of a JDK exception: the object is forgotten -/
theorem z_throw0 {cls : String} {names : List String} {ik ic : Nat} (hcls : Bundle.fit cls = true) (hnames : ∀ n ∈ names, Bundle.fit n = true) (hq1 : Cond.classLink M.1 ik cls ∈ lw_all) (hq2 : Cond.initialized cls ∈ lw_all) (hat : ∀ w ∈ vx_at0 M.1 ic cls names, w ∈ lw_all ∨ (w ∈ lw_tbl ∧ zmv w = true)) (hgood : ∀ w ∈ Cond.classLink M.1 ik cls :: Cond.initialized cls :: vx_at0 M.1 ic cls names, vx_ot w = true)
    (d0 : decode M.2.1 pc = .ok (.new ik, 3)) (d3 : decode M.2.1 (pc + 3) = .ok (.dup, 1)) (d4 : decode M.2.1 (pc + 4) = .ok (.invokespecial ic, 3)) (d7 : decode M.2.1 (pc + 7) = .ok (.athrow, 1)) (hh : M.2.2.2.2.2 = []) (hfr : names.length + 3 < fr) (hlo : (st.map fun v => v.category).sum + (13 * (names.length + 1) + 42) ≤ lo) (hmc : 1 ≤ mc) (hms : 6 ≤ ms) (hne : cls ≠ "SableCrown$Fault")
    (hQ : Q (.inr (cls, 0)) K F I L) : zW l G M fr lo mc ms pc lv st K F I L Q := by
  intro p e R s m args below meth c9 H locs cells slots ls ad ad0 K0 hc9 hR hP hE hw hl
  have hts := hc9.2.2.2.2.1
  obtain ⟨-, h2, h3, h4, h5, h6, h7, -⟩ := hP.2.2.2.2.2.2.1
  refine vx_throw0 (A := zA G) hc9.1 hc9.2.1 hc9.2.2.2.2.2.2.2.2.2 hc9.2.2.2.1 hcls hnames (hts _ hq1) (hts _ hq2) (fun w hw => ?_) hgood (h6.kept hP.2.2.2.2.1.2.1) (h7.kept hP.2.2.2.2.1.2.1) (hl.1.trans hc9.2.2.1.symm) d0 d3 d4 d7 (fun z hz => ?_) (by omega) (by rw [zcats]; omega) (by omega) (by omega) hc9.2.2.2.2.2.2.1 (fun q9 t hA hs hq => ?_) hP.2.2.2.2.1.2.2 (by omega) (by omega)
  · rcases hat w hw with h | ⟨h, hm⟩
    · exact hts w h
    · have h1 := hP.2.2.2.2.2.2.2.1 w h hm
      cases w <;> first
        | exact va_Nw.use rfl h1
        | cases hm
  · rw [hc9.2.2.2.2.2.2.2.2.1, hh] at hz
    cases hz
  · exact ⟨0, K, F, I, L, ad, fun h => absurd h hne, hP.hp.grow hs hq, hE, hQ⟩
end Z6
