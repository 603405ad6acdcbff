/-! Z13: exceptions: handlers, Fault's constructor -/
def zx {α : Type} (b : Bool) (x y : Option α) : Option α := match b with
  | true => x
  | false => y
theorem zx_some {α : Type} {b : Bool} {x y : Option α} {r : α} (h : zx b x y = some r) : (b = true ∧ x = some r) ∨ (b = false ∧ y = some r) := by
  cases b with
  | true => exact Or.inl ⟨rfl, h⟩
  | false => exact Or.inr ⟨rfl, h⟩
section Z13
variable {l : Launch} {G : zGt} {M : zM} {fr lo mc ms pc n : Nat} {lv lv' : List (Nat × Value)} {st : List Value} {K K1 : zKd} {F F1 : zFd} {I I1 : zId} {L L1 : zLd} {Q : zQt}
theorem zX_at {x : String × Nat} {a b h ct : Nat} {nm : String} {tpre tsuf : List (Nat × Nat × Nat × Nat)} (hh : M.2.2.2.2.2 = tpre ++ (a, b, h, ct) :: tsuf) (hpc : covers (⟨a, b, h, ct⟩ : ExceptionTableEntry) pc = true) (hct : ct ≠ 0) (hq : Cond.classLink M.1 ct nm ∈ lw_all) (hcast : Cond.castable x.1 nm ∈ lw_tbl)
    (hpre : ∀ z ∈ tpre, z.2.2.2 ≠ 0 ∧ x.1 = "java/lang/IllegalArgumentException" ∧ Cond.classLink M.1 z.2.2.2 "java/util/NoSuchElementException" ∈ lw_all)
    (kk : ∀ (p : Program) (e : Env) (R : Room) (s : State) (m : MethodId) (args : Array Value) (below : List Frame) (meth : Method) (c : Code) (H : Heap) (locs : List Loc) (cells slots : Nat) (ls : Array Slot) (ad ad0 : Nat → Nat) (K0 : zKd) (q : Addr),
      zCtx l M p s m args meth c → (fr ≤ R.frames ∧ lo ≤ R.locals ∧ cells + mc ≤ R.cells ∧ slots + ms ≤ R.slots) → zRep G ad K F I L s H locs → zExt K0 ad0 K ad → (∀ z ∈ lv, zwv K z.2) → lv_has ls M.2.2.1 (lv.map fun q => (q.1, zc ad q.2)) →
      (x.1 = "SableCrown$Fault" → q = ad x.2 ∧ K x.2 = some (8, 0)) → W p l e R s m args below meth c H locs cells slots (vx_MQ below (zQc G K0 ad0 Q) (zXC G K0 ad0 Q) args s R.cells R.slots (zA G)) (F0 m h ls [.ref q])) : zX l G M fr lo mc ms pc lv x K F I L Q := by
  intro p e R s m args below meth c9 H locs cells slots ls ad ad0 K0 q ce rest hc9 hR hP hE hw hl hx hce hcv hcl
  have hts := hc9.2.2.2.2.1
  have hnw := hP.2.2.2.2.2.2.2
  have ht : c9.exceptionTable.toList = tableOf tpre ++ (⟨a, b, h, ct⟩ : ExceptionTableEntry) :: tableOf tsuf := by
    rw [hc9.2.2.2.2.2.2.2.2.1, hh]
    simp [tableOf]
  refine vx_catch (E := x.1) (name := nm) hc9.2.2.2.1 (tableOf tpre) _ (tableOf tsuf) ht (fun z hz => ?_) hpc hct (hts _ hq) (va_Nw.use (A := args) rfl (hnw.1 _ hcast rfl)) hce hcv hcl (kk p e R s m args below meth c9 H locs cells slots ls ad ad0 K0 q hc9 hR hP hE hw hl hx)
  obtain ⟨y, hy, rfl⟩ := List.mem_map.mp hz
  obtain ⟨h1, h2, h3⟩ := hpre y hy
  exact Or.inr ⟨h1, _, hts _ h3, by rw [h2]; exact hnw.2.2.2.1⟩
/-- Fault caught: its object is known -/
theorem z_catchF {x : String × Nat} {a b h ct : Nat} (hx : x.1 = "SableCrown$Fault") (hh : M.2.2.2.2.2 = [(a, b, h, ct)]) (hpc : covers (⟨a, b, h, ct⟩ : ExceptionTableEntry) pc = true) (hct : ct ≠ 0) (hq : Cond.classLink M.1 ct "SableCrown$Fault" ∈ lw_all) (hcast : Cond.castable "SableCrown$Fault" "SableCrown$Fault" ∈ lw_tbl)
    (kk : zW l G M fr lo mc ms h lv [.ref x.2] K F I L Q) : zX l G M fr lo mc ms pc lv x K F I L Q := by
  refine zX_at (tpre := []) (tsuf := []) hh hpc hct hq (by rw [hx]; exact hcast) (fun z hz => nomatch hz) ?_
  intro p e R s m args below meth c9 H locs cells slots ls ad ad0 K0 q hc9 hR hP hE hw hl hq2
  obtain ⟨h1, h2⟩ := hq2 hx
  have k9 := kk p e R s m args below meth c9 H locs cells slots ls ad ad0 K0 hc9 hR hP hE ⟨hw, (show K x.2 ≠ none by rw [h2]; exact fun g => nomatch g), trivial⟩ hl
  rw [h1]
  exact k9
/-- another caught: its object goes into a local that isn't read -/
theorem z_catchO {x : String × Nat} {a b h ct i : Nat} {j : Fin 4} {nm : String} {tpre tsuf : List (Nat × Nat × Nat × Nat)} (hh : M.2.2.2.2.2 = tpre ++ (a, b, h, ct) :: tsuf) (hpc : covers (⟨a, b, h, ct⟩ : ExceptionTableEntry) pc = true) (hct : ct ≠ 0) (hq : Cond.classLink M.1 ct nm ∈ lw_all) (hcast : Cond.castable x.1 nm ∈ lw_tbl)
    (hpre : ∀ z ∈ tpre, z.2.2.2 ≠ 0 ∧ x.1 = "java/lang/IllegalArgumentException" ∧ Cond.classLink M.1 z.2.2.2 "java/util/NoSuchElementException" ∈ lw_all)
    (hd : decode M.2.1 h = .ok (.astore_n j, 1)) (hi : (j : Nat) = i) (hi2 : i < M.2.2.1) (hn : h + 1 = n) (kk : zW l G M fr lo mc ms n [] [] K F I L Q) : zX l G M fr lo mc ms pc lv x K F I L Q := by
  refine zX_at hh hpc hct hq hcast hpre ?_
  intro p e R s m args below meth c9 H locs cells slots ls ad ad0 K0 q hc9 hR hP hE hw hl hq2
  subst hn
  exact lv_astore_n hc9.1 hc9.2.1 hd hi (lv := []) ⟨hl.1, hl.2.1, fun z hz => nomatch hz⟩ hi2 rfl fun ls' hl' => kk p e R s m args below meth c9 H locs cells slots ls' ad ad0 K0 hc9 hR hP hE ⟨fun z hz => (nomatch hz), trivial⟩ ⟨hl'.1, hl'.2.1, fun z hz => nomatch hz⟩
/-- the same, the local's number in a byte of its own -/
theorem z_catchP {x : String × Nat} {a b h ct i : Nat} {nm : String} {tpre tsuf : List (Nat × Nat × Nat × Nat)} (hh : M.2.2.2.2.2 = tpre ++ (a, b, h, ct) :: tsuf) (hpc : covers (⟨a, b, h, ct⟩ : ExceptionTableEntry) pc = true) (hct : ct ≠ 0) (hq : Cond.classLink M.1 ct nm ∈ lw_all) (hcast : Cond.castable x.1 nm ∈ lw_tbl)
    (hpre : ∀ z ∈ tpre, z.2.2.2 ≠ 0 ∧ x.1 = "java/lang/IllegalArgumentException" ∧ Cond.classLink M.1 z.2.2.2 "java/util/NoSuchElementException" ∈ lw_all)
    (hd : decode M.2.1 h = .ok (.astore i, 2)) (hi2 : i < M.2.2.1) (hn : h + 2 = n) (kk : zW l G M fr lo mc ms n [] [] K F I L Q) : zX l G M fr lo mc ms pc lv x K F I L Q := by
  refine zX_at hh hpc hct hq hcast hpre ?_
  intro p e R s m args below meth c9 H locs cells slots ls ad ad0 K0 q hc9 hR hP hE hw hl hq2
  subst hn
  exact lv_astore hc9.1 hc9.2.1 hd (lv := []) ⟨hl.1, hl.2.1, fun z hz => nomatch hz⟩ hi2 rfl fun ls' hl' => kk p e R s m args below meth c9 H locs cells slots ls' ad ad0 K0 hc9 hR hP hE ⟨fun z hz => (nomatch hz), trivial⟩ ⟨hl'.1, hl'.2.1, fun z hz => nomatch hz⟩
theorem z_outC {x : String × Nat} (hh : (tableOf M.2.2.2.2.2).all (fun z => !covers z pc) = true) (hQ : Q (.inr x) K F I L) : zX l G M fr lo mc ms pc lv x K F I L Q := by
  intro p e R s m args below meth c H locs cells slots ls ad ad0 K0 q ce rest hc9 hR hP hE hw hl hx hce hcv hcl
  refine vx_out (E := x.1) (fun z hz => ?_) hc9.2.2.2.2.2.2.1 hce hcv hcl (fun t ht hA => ?_) hP.2.2.2.2.1.2.2 (by omega) (by omega)
  · rw [hc9.2.2.2.2.2.2.2.2.1] at hz
    have h1 := List.all_eq_true.mp hh z hz
    cases hcv : covers z pc with
    | false => rfl
    | true => rw [hcv] at h1; cases h1
  · exact ⟨x.2, K, F, I, L, ad, hx, by rw [ht]; exact hP.hp, hE, hQ⟩
theorem z_cVH {idx nA fr1 lo1 mc1 ms1 mc2 ms2 maxL b c n0 : Nat} {y : MethodName} {bytes : ByteArray} {ret : Option FieldType} {hh : List (Nat × Nat × Nat × Nat)} {C : String} {As st0 : List Value} {q : vw_C} {v : Option Value} (hm : zMet l G y (wsW_ y bytes maxL ret hh) fr1 lo1 mc1 ms1 (.ref b :: As) K F I L (zQe (.inl v) K1 F1 I1 L1)) (hd : decode M.2.1 pc = .ok (.invokevirtual idx, 3)) (hn : pc + 3 = n) (hG : GoodIn lw_all (wsV M.1 idx C y (wsW_ y bytes maxL ret hh)))
    (hy : zCee y C nA) (hA : As.length = nA) (hR1 : fr1 + 1 ≤ fr ∧ 8 + (maxL + 11) + lo1 ≤ lo) (hb : K b = some (c, n0)) (hc : zCl[c]? = some q) (hq : q.1 = C) (hs : st0 = As.reverse ++ .ref b :: st) (hst : (st.map fun v => v.category).sum ≤ 8) (hmc : mc2 + mc1 ≤ mc) (hms : ms2 + ms1 ≤ ms)
    (kk : zW l G M fr lo mc2 ms2 n lv (v.toList ++ st) K1 F1 I1 L1 Q) : zW l G M fr lo mc ms pc lv st0 K F I L Q :=
  z_callVH hm hd hn hG hy hA hR1 hb hc hq hs hst hmc hms (zQe_kk kk) zQe_kx
theorem z_cVHx {idx nA fr1 lo1 mc1 ms1 mc2 ms2 maxL b c n0 : Nat} {y : MethodName} {bytes : ByteArray} {ret : Option FieldType} {hh : List (Nat × Nat × Nat × Nat)} {C : String} {As st0 : List Value} {q : vw_C} {x : String × Nat} (hm : zMet l G y (wsW_ y bytes maxL ret hh) fr1 lo1 mc1 ms1 (.ref b :: As) K F I L (zQe (.inr x) K1 F1 I1 L1)) (hd : decode M.2.1 pc = .ok (.invokevirtual idx, 3)) (hn : pc + 3 = n) (hG : GoodIn lw_all (wsV M.1 idx C y (wsW_ y bytes maxL ret hh)))
    (hy : zCee y C nA) (hA : As.length = nA) (hR1 : fr1 + 1 ≤ fr ∧ 8 + (maxL + 11) + lo1 ≤ lo) (hb : K b = some (c, n0)) (hc : zCl[c]? = some q) (hq : q.1 = C) (hs : st0 = As.reverse ++ .ref b :: st) (hst : (st.map fun v => v.category).sum ≤ 8) (hmc : mc2 + mc1 ≤ mc) (hms : ms2 + ms1 ≤ ms)
    (kx : zX l G M fr lo mc2 ms2 pc lv x K1 F1 I1 L1 Q) : zW l G M fr lo mc ms pc lv st0 K F I L Q := by
  refine z_callVH hm hd hn hG hy hA hR1 hb hc hq hs hst hmc hms ?_ ?_
  · intro v' K' F' I' L' h
    obtain ⟨e, -⟩ := h
    cases e
  · intro v' K' F' I' L' h
    obtain ⟨e, rfl, rfl, rfl, rfl⟩ := h
    cases e
    exact kx
theorem z_cSH {idx nA fr1 lo1 mc1 ms1 mc2 ms2 maxL : Nat} {y : MethodName} {bytes : ByteArray} {ret : Option FieldType} {hh : List (Nat × Nat × Nat × Nat)} {C : String} {As st0 : List Value} {v : Option Value} (hm : zMet l G y (wsW_ y bytes maxL ret hh) fr1 lo1 mc1 ms1 As K F I L (zQe (.inl v) K1 F1 I1 L1)) (hd : decode M.2.1 pc = .ok (.invokestatic idx, 3)) (hn : pc + 3 = n) (hG : GoodIn lw_all (va_wsS M.1 idx y (wsW_ y bytes maxL ret hh)))
    (hy : zCee y C nA) (hA : As.length = nA) (hR1 : fr1 + 1 ≤ fr ∧ 8 + (maxL + 11) + lo1 ≤ lo) (hs : st0 = As.reverse ++ st) (hst : (st.map fun v => v.category).sum ≤ 8) (hmc : mc2 + mc1 ≤ mc) (hms : ms2 + ms1 ≤ ms)
    (kk : zW l G M fr lo mc2 ms2 n lv (v.toList ++ st) K1 F1 I1 L1 Q) : zW l G M fr lo mc ms pc lv st0 K F I L Q :=
  z_callSH hm hd hn hG hy.2 hA hR1 hs hst hmc hms (zQe_kk kk) zQe_kx
theorem z_laldK {o n0 : Nat} {i : Int32} (k : Nat) (hi : i.toNatClampNeg = k) (hd : decode M.2.1 pc = .ok (.laload, 1)) (hn : pc + 1 = n) (hk : K o = some (64 + 3, n0)) (hin : vp_in i n0) (kk : zW l G M fr lo mc ms n lv (.long (L o k) :: st) K F I L Q) : zW l G M fr lo mc ms pc lv (.int i :: .ref o :: st) K F I L Q := by
  subst hi
  exact z_lald hd hn hk hin kk
theorem z_lastK {o n0 : Nat} {i : Int32} {x : Int64} (k : Nat) (hi : i.toNatClampNeg = k) (hd : decode M.2.1 pc = .ok (.lastore, 1)) (hn : pc + 1 = n) (hk : K o = some (64 + 3, n0)) (ho : zNC ≤ o) (hin : vp_in i n0) (kk : zW l G M fr lo mc ms n lv st K F I (zu L o k x) Q) : zW l G M fr lo mc ms pc lv (.long x :: .int i :: .ref o :: st) K F I L Q := by
  subst hi
  exact z_last hd hn hk ho hin kk
theorem vx_back9L {p : Program} {l : Launch} {e : Env} {R : Room} {s : State} {m : MethodId} {args : Array Value} {below : List Frame} {meth : Method} {c : Code} {locs L : List Loc} {cells slots : Nat} {T S : State} {R' : Room} {k n : Nat} (X : Stand p l e R s m args below meth c T locs cells slots) (Y : Stand p l e R' ((T.setVm s.vm).setFrames (.invoking m args :: below)) m args below meth c T [] 0 0) (Z : Stand p l e R' ((T.setVm s.vm).setFrames (.invoking m args :: below)) m args below meth c S L k n) :
    Stand p l e R s m args below meth c S (locs ++ L) (cells + k) (slots + n) := by
  have hW0 : s.WarmedH ((T.setVm s.vm).setFrames (.invoking m args :: below)).vm := State.WarmedH.refl s
  refine { admits := X.admits, cas := X.cas, clock := X.clock, frames := X.frames, room := X.room, hears := X.hears, method := X.method, code := X.code, here := Z.here, tail := Z.tail, warmed := State.WarmedH.trans hW0 Z.warmed, limits := Z.limits.trans (Y.limits.symm.trans X.limits), bytes := Z.bytes.trans (Y.bytes.symm.trans X.bytes), same := ?_ }
  obtain ⟨e1, e2⟩ := Z.same
  rw [State.setFrames_setFrames] at e1
  have h2 : (T.setVm s.vm).sameButNew (S.setVm s.vm) L k n := ⟨e1, e2⟩
  exact X.same.trans h2
def zfL : List Cond := Bundle.throwableAtoms ++ Bundle.chain0Atoms "java/lang/Exception" [] ++
  [.methodLink "SableCrown$Fault" 1 (Bundle.init0 "java/lang/Exception"), .instantiable "SableCrown$Fault" 8, .selects "SableCrown$Fault" Bundle.tFill0 Bundle.tFill0, .selects "SableCrown$Fault" Bundle.tFill Bundle.tFill,
   .lays "SableCrown$Fault" Bundle.tN "cause" "Ljava/lang/Throwable;", .lays "SableCrown$Fault" Bundle.tN "stackTrace" Bundle.steD, .lays "SableCrown$Fault" Bundle.tN "suppressedExceptions" Bundle.listD,
   .isRef (.static Bundle.tN "UNASSIGNED_STACK" Bundle.steD), .isRef (.static Bundle.tN "SUPPRESSED_SENTINEL" Bundle.listD),
   .fieldLink Bundle.tN 198 Bundle.tN "backtrace" "Ljava/lang/Object;", .lays Bundle.tN Bundle.tN "backtrace" "Ljava/lang/Object;", .lays "SableCrown$Fault" Bundle.tN "backtrace" "Ljava/lang/Object;"]
theorem zfL_in : ∀ w ∈ zfL.filter vx_no, w ∈ lw_all ∨ (w ∈ lw_tbl ∧ zmv w = true) := zatt (by decide +kernel)
theorem zfL_ot : ∀ w ∈ zfL.filter vx_no, vx_ot w = true := List.all_eq_true.mp (by decide +kernel)
/-- Fault's constructor calls Exception's -/
theorem z_faultSuper {o n0 : Nat} (hM : M.1 = "SableCrown$Fault") (hd : decode M.2.1 pc = .ok (.invokespecial 1, 3)) (hn : pc + 3 = n) (hk : K o = some (8, n0)) (ho : zNC ≤ o) (hb : F o 4 = none) (h26 : K 26 ≠ none) (hfr : 8 ≤ fr) (hlo : (st.map fun v => v.category).sum + 100 ≤ lo)
    (kk : zW l G M fr lo mc ms n lv st K (zu (zu (zu F o 0 (some o)) o 1 (F 26 0)) o 2 (F 26 1)) I L Q) : zW l G M fr lo mc ms pc lv (.ref o :: st) K F I L Q := by
  intro p e R s m args below meth c9 H locs cells slots ls ad ad0 K0 hc9 hR hP hE hw hl
  subst hn
  have hts := hc9.2.2.2.2.1
  have hexec := hc9.1
  have hnw := hP.2.2.2.2.2.2.2
  have hcn := hP.2.2.2.2.2.2.1
  have hS2 := hP.2.2.2.2.1.2.1
  have hU : vx_Zq Bundle.tN "UNASSIGNED_STACK" Bundle.steD (zA G) s H := hcn.2.2.2.2.2.1.kept hS2
  have hN : vx_Zq Bundle.tN "SUPPRESSED_SENTINEL" Bundle.listD (zA G) s H := hcn.2.2.2.2.2.2.1.kept hS2
  have hown : s.vm.findClass "SableCrown$Fault" = some m.cls := by rw [← hM]; exact hc9.2.2.2.1
  obtain ⟨gm, cell, q1, q2, q3, q4⟩ : (8 < 18 ∧ zmon H (ad o) 8) ∧ t_OB (ad o) (G.1.1 8) (zN 8) (G.1.2.1 8) H (fun k => zfv ad F I L (zTy 8 k) o k) := by
    rcases (hP.ok ho hk).1 8 n0 hk with h | ⟨t, a, -⟩
    · exact h
    · omega
  obtain ⟨cell2, m1, m2, m3⟩ := gm.2 rfl
  cases Option.some.inj (q1.symm.trans m1)
  obtain ⟨hSl, hfc, kC, hkC, hkind⟩ := hP.2.2.2.2.2.1.1 8 _ rfl
  intro T hT X
  have htr : e.platform.stackTraces = false := (show e.platform.stackTraces = l.stackTraces by rw [X.admits.platform]).trans hc9.2.2.2.2.2.2.2.2.2
  have Y := vx_rebase X (R' := { frames := R.frames, locals := R.locals, cells := 0, slots := 0 }) (Nat.le_refl _) (Nat.le_refl _) (by show cells + 0 ≤ _; omega) (by show slots + 0 ≤ _; omega)
  obtain ⟨s', hA'⟩ : ∃ z, z = (T.setVm s.vm).setFrames (.invoking m args :: below) := ⟨_, rfl⟩
  rw [← hA'] at Y
  have hvm : s'.vm = s.vm := by rw [hA']; rfl
  have hhp : s'.heap = H := by rw [hA']; exact hT
  have hW0 : s.WarmedH s'.vm := by rw [hvm]; exact State.WarmedH.refl s
  have hat' : ∀ w ∈ zfL.filter vx_no, w.before args s' = true := fun w hw2 => vx_ot_at hW0 hvm.symm (zfL_ot w hw2) (by
    rcases zfL_in w hw2 with h | ⟨h, hm⟩
    · exact hts w h
    · exact va_Nw.use (A := args) (by cases w <;> first | rfl | cases hm) (hnw.1 w h hm))
  have hU' : vx_Zq Bundle.tN "UNASSIGNED_STACK" Bundle.steD (zA G) s' s'.heap := by rw [hhp]; exact vx_Zq.moved hW0.alike hU
  have hN' : vx_Zq Bundle.tN "SUPPRESSED_SENTINEL" Bundle.listD (zA G) s' s'.heap := by rw [hhp]; exact vx_Zq.moved hW0.alike hN
  have h : ∀ w ∈ zfL, w.before args s' = true := vx_own hat' (vx_isRefq hU'.1) (vx_isRefq hN'.1) hU'.2.word hN'.2.word
  have a' : ∀ x, x ∈ zfL → x.holds args s' none s' [] = true := fun x hx => h x hx
  have howns : e.platform.frameOwnsMonitors = true := by rw [X.admits.platform]
  have hfin : e.platform.finalization = false := by rw [X.admits.platform]
  have hpl : e.platform.magicAccessors = ({} : Platform).magicAccessors := by rw [X.admits.platform]
  obtain ⟨Tt, Z, Lk, LZ, Yt⟩ := ThrowableC.of_atoms (args := args) (s := s') howns hfin hpl (fun x hx => h x (by simp [zfL, hx]))
  obtain ⟨P1, Ps, hlen, L1, hL, hP1m, hlink1, hlink⟩ := Bundle.chain0 (args := args) (s := s') hpl Yt.init0 [] "java/lang/Exception" (by decide +kernel) (fun _ hx => nomatch hx) (fun x hx => h x (by simp [zfL, hx]))
  have hown' : s'.vm.findClass "SableCrown$Fault" = some m.cls := by rw [hvm]; exact hown
  have hfc' : s'.vm.findClass "SableCrown$Fault" = some cell.cls := by rw [hvm, q2]; exact hfc
  have hsel0 : selectMethod e.platform s'.vm cell.cls Tt.fill0 = .method Tt.fill0 := by
    obtain ⟨c2, r2, m4, p1, p2, p3, p4, -⟩ := Cond.selects_spec (a' (.selects "SableCrown$Fault" Bundle.tFill0 Bundle.tFill0) (by simp [zfL]))
    cases Option.some.inj (p1.symm.trans hfc')
    cases Option.some.inj (p2.symm.trans (State.methodFound?_of_named Yt.fill0 (by decide)))
    cases Option.some.inj (p3.symm.trans Yt.fill0)
    rw [Launch.admits_selectMethod X.admits]; exact p4
  have hselF : selectMethod e.platform s'.vm cell.cls Tt.fill = .method Tt.fill := by
    obtain ⟨c2, r2, m4, p1, p2, p3, p4, -⟩ := Cond.selects_spec (a' (.selects "SableCrown$Fault" Bundle.tFill Bundle.tFill) (by simp [zfL]))
    cases Option.some.inj (p1.symm.trans hfc')
    cases Option.some.inj (p2.symm.trans (State.methodFound?_of_named Yt.fill (by decide)))
    cases Option.some.inj (p3.symm.trans Yt.fill)
    rw [Launch.admits_selectMethod X.admits]; exact p4
  obtain ⟨cellS, hcS0, hiss⟩ := Yt.statics
  obtain ⟨u0, hu0⟩ := Cond.staticRefV Yt.unassigned Lk.unassignedStatic Lk.statics hcS0 hiss (a' (.isRef (.static Bundle.tN "UNASSIGNED_STACK" Bundle.steD)) (by simp [zfL]))
  obtain ⟨sen, hsen⟩ := Cond.staticRefV Yt.sentinel Lk.sentinelStatic Lk.statics hcS0 hiss (a' (.isRef (.static Bundle.tN "SUPPRESSED_SENTINEL" Bundle.listD)) (by simp [zfL]))
  obtain ⟨ci198, i198, fB, hk198, hg198, ha198, hsB, -, hnB, htB, hffB⟩ := Cond.ownField (t := .object "java/lang/Object") Yt.found Lk.cls (by decide +kernel) (a' (.fieldLink Bundle.tN 198 Bundle.tN "backtrace" "Ljava/lang/Object;") (by simp [zfL])) (a' (.lays Bundle.tN Bundle.tN "backtrace" "Ljava/lang/Object;") (by simp [zfL])) e.platform hpl
  have hff : s'.fieldFound? = s.fieldFound? := by rw [hA']; rfl
  have hcS : H[Tt.aS]? = some cellS := by rw [← hhp]; exact hcS0
  have hknownS : cellS.vm ≠ .unknown := by
    intro hu
    rw [hu] at hiss
    cases hiss
  have hneS : Tt.aS ≠ ad o := by
    intro hx
    rw [hx, q1] at hcS
    cases hcS
    rw [q3] at hiss
    cases hiss
  -- what the statics hold
  have hst : ∀ (nm ds : String) (w : Value) (cf : ClassId) (i : Nat) (f : Field) (u : RefV), va_Z Bundle.tN nm ds w (zA G) s H → s'.fieldFound? Bundle.tN nm ds = some (cf, Tt.kT, i, f) → cellS.slots[f.slot]? = some u.v → u.v = w := by
    intro nm ds w cf i f u hz hf hu
    obtain ⟨cf2, kf2, fi2, f2, a2, cell3, z1, z2, z3, z4, z5, z6, z7, -⟩ := hz
    rw [hff] at hf
    have e9 := hf.symm.trans z1
    have e10 : Tt.kT = kf2 := congrArg (fun q => q.2.1) (Option.some.inj e9)
    have e11 : f = f2 := congrArg (fun q => q.2.2.2) (Option.some.inj e9)
    have e12 : Tt.kT.statics = some Tt.aS := Lk.statics
    rw [e10] at e12
    have e13 := Option.some.inj (e12.symm.trans z4)
    rw [← e13] at z5
    cases Option.some.inj (hcS.symm.trans z5)
    rw [e11] at hu
    exact Option.some.inj (hu.symm.trans z7)
  have hz22 : u0.v = zc ad (zrf (F 26 0)) := hst "UNASSIGNED_STACK" Bundle.steD _ _ _ _ u0 (hP.staR (List.mem_of_getElem? (i := 0) rfl)) Yt.unassigned hu0
  have hz23 : sen.v = zc ad (zrf (F 26 1)) := hst "SUPPRESSED_SENTINEL" Bundle.listD _ _ _ _ sen (hP.staR (List.mem_of_getElem? (i := 1) rfl)) Yt.sentinel hsen
  obtain ⟨qq, g1, glt, g3, g4, g5, g6, -⟩ := zok8
  cases Option.some.inj (g1.symm.trans (rfl : zCl[8]? = some (RX9, TX9, 8)))
  have hap := va_apart (own := M.1) hts g4 (zTy 8) g5 g6 hP.2.2.2.2.2.1 g1
  have hsl : ∀ (k : Nat) (f : Field) (x : ClassId) (y : Class) (z : Nat), k < 8 → s'.fieldFound? (TX9 k).1 (TX9 k).2.1 (TX9 k).2.2.1 = some (x, y, z, f) → f.slot = G.1.2.1 8 k := by
    intro k f x y z hk8 hf
    obtain ⟨_, _, _, f0, hi, he⟩ := hSl k hk8
    rw [hff] at hf
    have e9 : f = f0 := congrArg (fun q => q.2.2.2) (Option.some.inj (hf.symm.trans hi))
    rw [e9]; exact he
  have htk : ∀ (k : Nat) (f : Field) (x : ClassId) (y : Class) (z : Nat) (w : RefV), k < 3 → s'.fieldFound? (TX9 k).1 (TX9 k).2.1 (TX9 k).2.2.1 = some (x, y, z, f) → Takes s' cell f w.v := by
    intro k f x y z w hk3 hf
    have hk8 : k < 8 := by omega
    have e1 := hsl k f x y z hk8 hf
    refine ⟨by rw [e1]; exact k2_hasslot (q4 k hk8), ?_⟩
    rw [hff] at hf
    have hft : narrow (zTy 8 k) w.v = w.v ∧ fits (zTy 8 k) w.v = true := by
      match k, hk3 with
      | 0, _ => exact ⟨narrow_refV _ w, fits_refV_object _ w⟩
      | 1, _ => exact ⟨narrow_refV _ w, fits_refV_array _ w⟩
      | 2, _ => exact ⟨narrow_refV _ w, fits_refV_object _ w⟩
    have h6 := (u_fits hfc hkC hkind (u_lays hts g4 hk8) hf (g5 k hk8) hft.1 hft.2).2
    rw [q2, q3]
    have e5 : s'.fitsSlot = s.fitsSlot := by rw [hA']; rfl
    rw [e5]
    exact h6
  have sC := hsl 0 _ _ _ _ (by decide) Yt.cause
  have sS := hsl 1 _ _ _ _ (by decide) Yt.stack
  have sP := hsl 2 _ _ _ _ (by decide) Yt.supp
  have sB := hsl 4 _ _ _ _ (by decide) hffB
  have w0 := t_set q4 hap (k := 0) (by decide) (.ref (ad o))
  have w1 := t_set w0 hap (k := 1) (by decide) u0.v
  have w2 := t_set w1 hap (k := 2) (by decide) sen.v
  have w3 := t_set w2 hap (k := 1) (by decide) u0.v
  rw [← sC, ← sS, ← sP] at w2 w3
  rw [← sC, ← sS] at w1
  rw [← sC] at w0
  have hskip : SkipFacts Tt e.platform s' (fun u => u) u0 ((preparedCellV Tt.toThrowableT cell (ad o) u0 sen).withEntry T.cur) := by
    refine ⟨{ ci198 := ci198, i198 := i198, fBack := fB }, ⟨hk198, hg198, ha198, hsB⟩, ?_, fun _ _ => rfl⟩
    show (preparedCellV Tt.toThrowableT cell (ad o) u0 sen).slots[fB.slot]? = some .null
    rw [sB]
    refine (w2 4 (by decide)).trans ?_
    show some (zfv ad F I L (zTy 8 4) o 4) = some .null
    show some (va_rf ((F o 4).map ad)) = some .null
    rw [hb]; rfl
  obtain ⟨tm, methC, cdC, kC9, vm₁, hnC, -, -, -, -, -, -, -, hW₁, st1⟩ := Steps.initCold (tb := p.tables) (e := e) (below := below) (s := s') (U := T) Y.here hexec Y.warmed hpl hown' (t := Bundle.init0 "java/lang/Exception") rfl rfl (Bundle.fit_spec (by decide +kernel)).2
    (a' (.methodLink "SableCrown$Fault" 1 (Bundle.init0 "java/lang/Exception")) (by simp [zfL])) (h (.instanceMethod (Bundle.init0 "java/lang/Exception")) (by simp [zfL, Bundle.chain0Atoms, Bundle.passAtoms])) (bytes := Bundle.five) (maxL := 1) (h (.code (Bundle.init0 "java/lang/Exception") Bundle.five 1 none) (by simp [zfL, Bundle.chain0Atoms, Bundle.passAtoms]))
    (f := F0 m pc ls (.ref (ad o) :: st.map (zc ad))) rfl (a := ad o) (rest := st.map (zc ad)) rfl (by rw [hc9.2.1]; exact hd)
  cases Option.some.inj (hnC.symm.trans hP1m)
  have X₁ := Y.noted hW₁
  obtain ⟨vm₂, X₂, st2⟩ := X₁.ctorPlainOffV hexec (g := F0 m pc ls (st.map (zc ad))) rfl (hl.1.trans hc9.2.2.1.symm) Tt Lk Z LZ (P1 :: Ps)
    (fun P hPm => by rcases List.mem_cons.mp hPm with rfl | hPm; exact L1; exact hL P hPm) ⟨hlink1, hlink⟩ (u0 := u0) (sen := sen) (self := ad o) (cell := cell) (cellS := cellS)
    (show T.heap[ad o]? = some cell by rw [hT]; exact q1) (fun _ hx => by rw [q3] at hx; cases hx) (by rw [q3]; exact fun hx => by cases hx) m2 m3 hsel0 hselF (show T.heap[Tt.aS]? = some cellS by rw [hT]; exact hcS) hneS hknownS hu0 hsen
    (htk 0 _ _ _ _ ⟨.ref (ad o), rfl⟩ (by decide) Yt.cause) (htk 1 _ _ _ _ u0 (by decide) Yt.stack) (htk 2 _ _ _ _ sen (by decide) Yt.supp) Yt.objLocals hskip htr [] (by rw [hc9.2.1]; exact hd)
    (by simp only [List.length_cons, hlen, List.length_nil]; show _ < R.frames; omega) (by simp only [List.length_cons, hlen, List.length_nil]; show 2 * 0 + _ + _ ≤ R.locals; rw [zcats]; omega)
  subst hA'
  have X5 := vx_back9L X Y X₂
  have hla : ad o < H.size := (Array.getElem?_eq_some_iff.mp q1).1
  have hKn : K o ≠ none := by rw [hk]; exact fun g => nomatch g
  generalize hcell' : (preparedCellV Tt.toThrowableT cell (ad o) u0 sen).setSlot Tt.fStack.slot u0.v = cell' at X5 st2 w3
  have hheap : (((T.setVm vm₁).setVm vm₂).setCell (ad o) cell').heap = H.setIfInBounds (ad o) cell' := by rw [← hT]; rfl
  have hh : (H.setIfInBounds (ad o) cell')[ad o]? = some cell' := by simp [Array.getElem?_setIfInBounds, hla]
  have f0 : zu (zu (zu F o 0 (some o)) o 1 (F 26 0)) o 2 (F 26 1) o 0 = some o := by rw [zu_off (by omega), zu_off (by omega), zu_same]
  have f1 : zu (zu (zu F o 0 (some o)) o 1 (F 26 0)) o 2 (F 26 1) o 1 = F 26 0 := by rw [zu_off (by omega), zu_same]
  have f2 : zu (zu (zu F o 0 (some o)) o 1 (F 26 0)) o 2 (F 26 1) o 2 = F 26 1 := by rw [zu_same]
  have f3 : ∀ j, 3 ≤ j → zu (zu (zu F o 0 (some o)) o 1 (F 26 0)) o 2 (F 26 1) o j = F o j := fun j hj => by rw [zu_off (by omega), zu_off (by omega), zu_off (by omega)]
  have hP2 : zRep G ad K (zu (zu (zu F o 0 (some o)) o 1 (F 26 0)) o 2 (F 26 1)) I L s (H.setIfInBounds (ad o) cell') (locs ++ ([] ++ [⟨ad o, Tt.fCause.slot⟩, ⟨ad o, Tt.fStack.slot⟩, ⟨ad o, Tt.fSupp.slot⟩, ⟨ad o, Tt.fStack.slot⟩])) := by
    refine hP.write (I' := I) (L' := L) ho hKn (by simp) (fun q hq => by simp [Array.getElem?_setIfInBounds, Ne.symm hq]) (fun a ha => ⟨funext fun b => ?_, rfl, rfl⟩) ?_ (fun j y hj => ?_) (fun z hz => ?_)
    · rw [zu_off fun g => ha g.1, zu_off fun g => ha g.1, zu_off fun g => ha g.1]
    · intro c' n' hc'
      cases Option.some.inj (hk.symm.trans hc')
      refine Or.inl ⟨⟨by decide, fun _ => ⟨_, hh, by rw [← hcell']; exact m2, by rw [← hcell']; exact m3⟩⟩, t_OB.to ⟨_, hh, by rw [← hcell']; exact q2, by rw [← hcell']; exact q3, w3⟩ (fun j hj => ?_)⟩
      have hj8 : j < 8 := hj
      match j, hj8 with
      | 0, _ =>
        show Value.ref (ad o) = va_rf ((zu (zu (zu F o 0 (some o)) o 1 (F 26 0)) o 2 (F 26 1) o 0).map ad)
        rw [f0]; rfl
      | 1, _ =>
        show u0.v = va_rf ((zu (zu (zu F o 0 (some o)) o 1 (F 26 0)) o 2 (F 26 1) o 1).map ad)
        rw [f1, hz22]; exact zc_rf _ _
      | 2, _ =>
        show sen.v = va_rf ((zu (zu (zu F o 0 (some o)) o 1 (F 26 0)) o 2 (F 26 1) o 2).map ad)
        rw [f2, hz23]; exact zc_rf _ _
      | 3, _ =>
        show _ = va_rf ((zu (zu (zu F o 0 (some o)) o 1 (F 26 0)) o 2 (F 26 1) o 3).map ad)
        rw [f3 3 (by decide)]; rfl
      | 4, _ =>
        show _ = va_rf ((zu (zu (zu F o 0 (some o)) o 1 (F 26 0)) o 2 (F 26 1) o 4).map ad)
        rw [f3 4 (by decide)]; rfl
      | 5, _ => rfl
      | 6, _ => rfl
      | 7, _ => rfl
    · by_cases e0 : j = 0
      · subst e0; rw [f0] at hj; cases hj; exact hKn
      · by_cases e1 : j = 1
        · subst e1; rw [f1] at hj; exact hP.2.2.1 26 0 y h26 hj
        · by_cases e2 : j = 2
          · subst e2; rw [f2] at hj; exact hP.2.2.1 26 1 y h26 hj
          · rw [f3 j (by omega)] at hj
            exact hP.2.2.1 o j y hKn hj
    · simp only [List.nil_append, List.mem_cons, List.not_mem_nil, or_false] at hz
      rcases hz with rfl | rfl | rfl | rfl <;> rfl
  obtain ⟨t, a1, b1⟩ := kk p e R s m args below meth c9 _ _ cells slots ls ad ad0 K0 hc9 hR hP2 hE ⟨hw.1, hw.2.2⟩ hl _ hheap X5
  refine ⟨t, st1 _ (fun acts => ?_), b1⟩
  rw [doInvoke_state]
  exact st2 _ a1
end Z13
