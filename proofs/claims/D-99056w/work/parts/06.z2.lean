/-! Z2: zW's rules, an instruction each, that touch no heap (printed by mkz.py) -/
theorem zc_cat (ad : Nat → Nat) (v : Value) : (zc ad v).category = v.category := by cases v <;> rfl
theorem zc_rf (ad : Nat → Nat) (r : Option Nat) : zc ad (zrf r) = va_rf (r.map ad) := by cases r <;> rfl
def zset (lv : List (Nat × Value)) (i : Nat) (v : Value) : List (Nat × Value) := (i, v) :: lv.filter (fun q => !(q.1 == i) && !(q.1 + 1 == i && q.2.category == 2))
theorem zset_map (ad : Nat → Nat) (lv : List (Nat × Value)) (i : Nat) (v : Value) : (i, zc ad v) :: (lv.map fun q => (q.1, zc ad q.2)).filter (fun q => !(q.1 == i) && !(q.1 + 1 == i && q.2.category == 2)) = (zset lv i v).map fun q => (q.1, zc ad q.2) := by
  simp only [zset, List.map_cons, List.filter_map, Function.comp_def, zc_cat]
theorem zset_wf {K : zKd} {lv : List (Nat × Value)} {i : Nat} {v : Value} (h : ∀ q ∈ lv, zwv K q.2) (hv : zwv K v) : ∀ q ∈ zset lv i v, zwv K q.2 := by
  intro q hq
  rcases List.mem_cons.mp hq with e | e
  · rw [e]; exact hv
  · exact h q (List.mem_filter.mp e).1
theorem zlv {ad : Nat → Nat} {ls : Array Slot} {n : Nat} {lv : List (Nat × Value)} (hl : lv_has ls n (lv.map fun q => (q.1, zc ad q.2))) (k : Nat) {i : Nat} {v : Value} (h : lv[k]? = some (i, v)) : ls[i]? = some (.val (zc ad v)) := lv_at hl k (by rw [List.getElem?_map, h]; rfl)
theorem zlv_wf {K : zKd} {lv : List (Nat × Value)} {st : List Value} (h : zwf K lv st) {k i : Nat} {v : Value} (hk : lv[k]? = some (i, v)) : zwv K v := h.1 _ (List.mem_of_getElem? hk)
section Z2
variable {l : Launch} {G : zGt} {M : zM} {fr lo mc ms pc n : Nat} {lv lv' : List (Nat × Value)} {st : List Value} {K : zKd} {F : zFd} {I : zId} {L : zLd} {Q : zQt}
theorem z_iadd {x y : Int32} (hd : decode M.2.1 pc = .ok (.iadd, 1)) (hn : pc + 1 = n) (k : zW l G M fr lo mc ms n lv (.int (x + y) :: st) K F I L Q) : zW l G M fr lo mc ms pc lv (.int y :: .int x :: st) K F I L Q := by
  intro p e R s m args below meth c H locs cells slots ls ad ad0 K0 hc hR hP hE hw hl
  subst hn
  exact lv_iadd hc.1 hc.2.1 hd (k p e R s m args below meth c H locs cells slots ls ad ad0 K0 hc hR hP hE ⟨hw.1, ⟨trivial, hw.2.2.2⟩⟩ hl)
theorem z_isub {x y : Int32} (hd : decode M.2.1 pc = .ok (.isub, 1)) (hn : pc + 1 = n) (k : zW l G M fr lo mc ms n lv (.int (x - y) :: st) K F I L Q) : zW l G M fr lo mc ms pc lv (.int y :: .int x :: st) K F I L Q := by
  intro p e R s m args below meth c H locs cells slots ls ad ad0 K0 hc hR hP hE hw hl
  subst hn
  exact lv_isub hc.1 hc.2.1 hd (k p e R s m args below meth c H locs cells slots ls ad ad0 K0 hc hR hP hE ⟨hw.1, ⟨trivial, hw.2.2.2⟩⟩ hl)
theorem z_imul {x y : Int32} (hd : decode M.2.1 pc = .ok (.imul, 1)) (hn : pc + 1 = n) (k : zW l G M fr lo mc ms n lv (.int (x * y) :: st) K F I L Q) : zW l G M fr lo mc ms pc lv (.int y :: .int x :: st) K F I L Q := by
  intro p e R s m args below meth c H locs cells slots ls ad ad0 K0 hc hR hP hE hw hl
  subst hn
  exact lv_imul hc.1 hc.2.1 hd (k p e R s m args below meth c H locs cells slots ls ad ad0 K0 hc hR hP hE ⟨hw.1, ⟨trivial, hw.2.2.2⟩⟩ hl)
theorem z_iand {x y : Int32} (hd : decode M.2.1 pc = .ok (.iand, 1)) (hn : pc + 1 = n) (k : zW l G M fr lo mc ms n lv (.int (x &&& y) :: st) K F I L Q) : zW l G M fr lo mc ms pc lv (.int y :: .int x :: st) K F I L Q := by
  intro p e R s m args below meth c H locs cells slots ls ad ad0 K0 hc hR hP hE hw hl
  subst hn
  exact lv_iand hc.1 hc.2.1 hd (k p e R s m args below meth c H locs cells slots ls ad ad0 K0 hc hR hP hE ⟨hw.1, ⟨trivial, hw.2.2.2⟩⟩ hl)
theorem z_ior {x y : Int32} (hd : decode M.2.1 pc = .ok (.ior, 1)) (hn : pc + 1 = n) (k : zW l G M fr lo mc ms n lv (.int (x ||| y) :: st) K F I L Q) : zW l G M fr lo mc ms pc lv (.int y :: .int x :: st) K F I L Q := by
  intro p e R s m args below meth c H locs cells slots ls ad ad0 K0 hc hR hP hE hw hl
  subst hn
  exact lv_ior hc.1 hc.2.1 hd (k p e R s m args below meth c H locs cells slots ls ad ad0 K0 hc hR hP hE ⟨hw.1, ⟨trivial, hw.2.2.2⟩⟩ hl)
theorem z_ixor {x y : Int32} (hd : decode M.2.1 pc = .ok (.ixor, 1)) (hn : pc + 1 = n) (k : zW l G M fr lo mc ms n lv (.int (x ^^^ y) :: st) K F I L Q) : zW l G M fr lo mc ms pc lv (.int y :: .int x :: st) K F I L Q := by
  intro p e R s m args below meth c H locs cells slots ls ad ad0 K0 hc hR hP hE hw hl
  subst hn
  exact lv_ixor hc.1 hc.2.1 hd (k p e R s m args below meth c H locs cells slots ls ad ad0 K0 hc hR hP hE ⟨hw.1, ⟨trivial, hw.2.2.2⟩⟩ hl)
theorem z_ishl {x y : Int32} (hd : decode M.2.1 pc = .ok (.ishl, 1)) (hn : pc + 1 = n) (k : zW l G M fr lo mc ms n lv (.int (x <<< (y &&& 31)) :: st) K F I L Q) : zW l G M fr lo mc ms pc lv (.int y :: .int x :: st) K F I L Q := by
  intro p e R s m args below meth c H locs cells slots ls ad ad0 K0 hc hR hP hE hw hl
  subst hn
  exact lv_ishl hc.1 hc.2.1 hd (k p e R s m args below meth c H locs cells slots ls ad ad0 K0 hc hR hP hE ⟨hw.1, ⟨trivial, hw.2.2.2⟩⟩ hl)
theorem z_ishr {x y : Int32} (hd : decode M.2.1 pc = .ok (.ishr, 1)) (hn : pc + 1 = n) (k : zW l G M fr lo mc ms n lv (.int (x >>> (y &&& 31)) :: st) K F I L Q) : zW l G M fr lo mc ms pc lv (.int y :: .int x :: st) K F I L Q := by
  intro p e R s m args below meth c H locs cells slots ls ad ad0 K0 hc hR hP hE hw hl
  subst hn
  exact lv_ishr hc.1 hc.2.1 hd (k p e R s m args below meth c H locs cells slots ls ad ad0 K0 hc hR hP hE ⟨hw.1, ⟨trivial, hw.2.2.2⟩⟩ hl)
theorem z_idiv {x y : Int32} (hd : decode M.2.1 pc = .ok (.idiv, 1)) (hn : pc + 1 = n) (h0 : ¬ y = 0) (k : zW l G M fr lo mc ms n lv (.int (x / y) :: st) K F I L Q) : zW l G M fr lo mc ms pc lv (.int y :: .int x :: st) K F I L Q := by
  intro p e R s m args below meth c H locs cells slots ls ad ad0 K0 hc hR hP hE hw hl
  subst hn
  exact lv_idiv hc.1 hc.2.1 hd h0 (k p e R s m args below meth c H locs cells slots ls ad ad0 K0 hc hR hP hE ⟨hw.1, ⟨trivial, hw.2.2.2⟩⟩ hl)
theorem z_irem {x y : Int32} (hd : decode M.2.1 pc = .ok (.irem, 1)) (hn : pc + 1 = n) (h0 : ¬ y = 0) (k : zW l G M fr lo mc ms n lv (.int (x - x / y * y) :: st) K F I L Q) : zW l G M fr lo mc ms pc lv (.int y :: .int x :: st) K F I L Q := by
  intro p e R s m args below meth c H locs cells slots ls ad ad0 K0 hc hR hP hE hw hl
  subst hn
  exact lv_irem hc.1 hc.2.1 hd h0 (k p e R s m args below meth c H locs cells slots ls ad ad0 K0 hc hR hP hE ⟨hw.1, ⟨trivial, hw.2.2.2⟩⟩ hl)
theorem z_iushr {x y : Int32} (hd : decode M.2.1 pc = .ok (.iushr, 1)) (hn : pc + 1 = n) (k : zW l G M fr lo mc ms n lv (.int ((x.toUInt32 >>> (y.toUInt32 &&& Int32.toUInt32 31)).toInt32) :: st) K F I L Q) : zW l G M fr lo mc ms pc lv (.int y :: .int x :: st) K F I L Q := by
  intro p e R s m args below meth c H locs cells slots ls ad ad0 K0 hc hR hP hE hw hl
  subst hn
  exact lv_iushr hc.1 hc.2.1 hd rfl (k p e R s m args below meth c H locs cells slots ls ad ad0 K0 hc hR hP hE ⟨hw.1, ⟨trivial, hw.2.2.2⟩⟩ hl)
theorem z_ineg {x : Int32} (hd : decode M.2.1 pc = .ok (.ineg, 1)) (hn : pc + 1 = n) (k : zW l G M fr lo mc ms n lv (.int (-x) :: st) K F I L Q) : zW l G M fr lo mc ms pc lv (.int x :: st) K F I L Q := by
  intro p e R s m args below meth c H locs cells slots ls ad ad0 K0 hc hR hP hE hw hl
  subst hn
  exact lv_ineg hc.1 hc.2.1 hd (k p e R s m args below meth c H locs cells slots ls ad ad0 K0 hc hR hP hE ⟨hw.1, ⟨trivial, hw.2.2⟩⟩ hl)
theorem z_i2l {x : Int32} (hd : decode M.2.1 pc = .ok (.i2l, 1)) (hn : pc + 1 = n) (k : zW l G M fr lo mc ms n lv (.long x.toInt64 :: st) K F I L Q) : zW l G M fr lo mc ms pc lv (.int x :: st) K F I L Q := by
  intro p e R s m args below meth c H locs cells slots ls ad ad0 K0 hc hR hP hE hw hl
  subst hn
  exact lv_i2l hc.1 hc.2.1 hd rfl (k p e R s m args below meth c H locs cells slots ls ad ad0 K0 hc hR hP hE ⟨hw.1, ⟨trivial, hw.2.2⟩⟩ hl)
theorem z_i2b {x : Int32} (hd : decode M.2.1 pc = .ok (.i2b, 1)) (hn : pc + 1 = n) (k : zW l G M fr lo mc ms n lv (.int x.toInt8.toInt32 :: st) K F I L Q) : zW l G M fr lo mc ms pc lv (.int x :: st) K F I L Q := by
  intro p e R s m args below meth c H locs cells slots ls ad ad0 K0 hc hR hP hE hw hl
  subst hn
  exact lv_i2b hc.1 hc.2.1 hd rfl (k p e R s m args below meth c H locs cells slots ls ad ad0 K0 hc hR hP hE ⟨hw.1, ⟨trivial, hw.2.2⟩⟩ hl)
theorem z_i2c {x : Int32} (hd : decode M.2.1 pc = .ok (.i2c, 1)) (hn : pc + 1 = n) (k : zW l G M fr lo mc ms n lv (.int (x.toUInt32 % 65536).toInt32 :: st) K F I L Q) : zW l G M fr lo mc ms pc lv (.int x :: st) K F I L Q := by
  intro p e R s m args below meth c H locs cells slots ls ad ad0 K0 hc hR hP hE hw hl
  subst hn
  exact lv_i2c hc.1 hc.2.1 hd rfl (k p e R s m args below meth c H locs cells slots ls ad ad0 K0 hc hR hP hE ⟨hw.1, ⟨trivial, hw.2.2⟩⟩ hl)
theorem z_lcmp {x y : Int64} (hd : decode M.2.1 pc = .ok (.lcmp, 1)) (hn : pc + 1 = n) (k : zW l G M fr lo mc ms n lv (.int (lg_cmp x y) :: st) K F I L Q) : zW l G M fr lo mc ms pc lv (.long y :: .long x :: st) K F I L Q := by
  intro p e R s m args below meth c H locs cells slots ls ad ad0 K0 hc hR hP hE hw hl
  subst hn
  exact W.lcmp hc.1 hc.2.1 hd (k p e R s m args below meth c H locs cells slots ls ad ad0 K0 hc hR hP hE ⟨hw.1, ⟨trivial, hw.2.2.2⟩⟩ hl)
theorem z_iconst {j : Int} {v : Int32} (hd : decode M.2.1 pc = .ok (.iconst j, 1)) (hn : pc + 1 = n) (hv : Int32.ofInt j = v) (k : zW l G M fr lo mc ms n lv (.int v :: st) K F I L Q) : zW l G M fr lo mc ms pc lv (st) K F I L Q := by
  intro p e R s m args below meth c H locs cells slots ls ad ad0 K0 hc hR hP hE hw hl
  subst hn
  exact lv_iconst hc.1 hc.2.1 hd hv (k p e R s m args below meth c H locs cells slots ls ad ad0 K0 hc hR hP hE ⟨hw.1, ⟨trivial, hw.2⟩⟩ hl)
theorem z_bipush {j : Int} {v : Int32} (hd : decode M.2.1 pc = .ok (.bipush j, 2)) (hn : pc + 2 = n) (hv : (Int8.ofInt j).toInt32 = v) (k : zW l G M fr lo mc ms n lv (.int v :: st) K F I L Q) : zW l G M fr lo mc ms pc lv (st) K F I L Q := by
  intro p e R s m args below meth c H locs cells slots ls ad ad0 K0 hc hR hP hE hw hl
  subst hn
  exact lv_bipush hc.1 hc.2.1 hd hv (k p e R s m args below meth c H locs cells slots ls ad ad0 K0 hc hR hP hE ⟨hw.1, ⟨trivial, hw.2⟩⟩ hl)
theorem z_sipush {j : Int} {v : Int32} (hd : decode M.2.1 pc = .ok (.sipush j, 3)) (hn : pc + 3 = n) (hv : (Int16.ofInt j).toInt32 = v) (k : zW l G M fr lo mc ms n lv (.int v :: st) K F I L Q) : zW l G M fr lo mc ms pc lv (st) K F I L Q := by
  intro p e R s m args below meth c H locs cells slots ls ad ad0 K0 hc hR hP hE hw hl
  subst hn
  exact lv_sipush hc.1 hc.2.1 hd hv (k p e R s m args below meth c H locs cells slots ls ad ad0 K0 hc hR hP hE ⟨hw.1, ⟨trivial, hw.2⟩⟩ hl)
theorem z_lconst {j : Fin 2} {v : Int64} (hd : decode M.2.1 pc = .ok (.lconst j, 1)) (hn : pc + 1 = n) (hv : Int64.ofNat (j : Nat) = v) (k : zW l G M fr lo mc ms n lv (.long v :: st) K F I L Q) : zW l G M fr lo mc ms pc lv (st) K F I L Q := by
  intro p e R s m args below meth c H locs cells slots ls ad ad0 K0 hc hR hP hE hw hl
  subst hn
  exact lv_lconst hc.1 hc.2.1 hd hv (k p e R s m args below meth c H locs cells slots ls ad ad0 K0 hc hR hP hE ⟨hw.1, ⟨trivial, hw.2⟩⟩ hl)
theorem z_null (hd : decode M.2.1 pc = .ok (.aconst_null, 1)) (hn : pc + 1 = n) (k : zW l G M fr lo mc ms n lv (.null :: st) K F I L Q) : zW l G M fr lo mc ms pc lv (st) K F I L Q := by
  intro p e R s m args below meth c H locs cells slots ls ad ad0 K0 hc hR hP hE hw hl
  subst hn
  exact lv_null hc.1 hc.2.1 hd (k p e R s m args below meth c H locs cells slots ls ad ad0 K0 hc hR hP hE ⟨hw.1, ⟨trivial, hw.2⟩⟩ hl)
theorem z_ldc {j : Nat} {v : Int32} (hd : decode M.2.1 pc = .ok (.ldc j, 2)) (hn : pc + 2 = n) (hq : Cond.constant M.1 j v ∈ lw_all) (k : zW l G M fr lo mc ms n lv (.int v :: st) K F I L Q) : zW l G M fr lo mc ms pc lv (st) K F I L Q := by
  intro p e R s m args below meth c H locs cells slots ls ad ad0 K0 hc hR hP hE hw hl
  subst hn
  exact lv_ldc hc.1 hc.2.1 hc.2.2.2.1 (hc.2.2.2.2.1 _ hq) hd (k p e R s m args below meth c H locs cells slots ls ad ad0 K0 hc hR hP hE ⟨hw.1, ⟨trivial, hw.2⟩⟩ hl)
theorem z_ldcw {j : Nat} {v : Int32} (hd : decode M.2.1 pc = .ok (.ldc_w j, 3)) (hn : pc + 3 = n) (hq : Cond.constant M.1 j v ∈ lw_all) (k : zW l G M fr lo mc ms n lv (.int v :: st) K F I L Q) : zW l G M fr lo mc ms pc lv (st) K F I L Q := by
  intro p e R s m args below meth c H locs cells slots ls ad ad0 K0 hc hR hP hE hw hl
  subst hn
  exact lv_ldcw hc.1 hc.2.1 hc.2.2.2.1 (hc.2.2.2.2.1 _ hq) hd (k p e R s m args below meth c H locs cells slots ls ad ad0 K0 hc hR hP hE ⟨hw.1, ⟨trivial, hw.2⟩⟩ hl)
theorem z_ldc2 {j : Nat} {v : Int64} (hd : decode M.2.1 pc = .ok (.ldc2_w j, 3)) (hn : pc + 3 = n) (hq : Cond.constantLong M.1 j v ∈ lw_all) (k : zW l G M fr lo mc ms n lv (.long v :: st) K F I L Q) : zW l G M fr lo mc ms pc lv (st) K F I L Q := by
  intro p e R s m args below meth c H locs cells slots ls ad ad0 K0 hc hR hP hE hw hl
  subst hn
  exact lv_ldc2 hc.1 hc.2.1 hc.2.2.2.1 (hc.2.2.2.2.1 _ hq) hd (k p e R s m args below meth c H locs cells slots ls ad ad0 K0 hc hR hP hE ⟨hw.1, ⟨trivial, hw.2⟩⟩ hl)
theorem z_dup {v : Value} (hd : decode M.2.1 pc = .ok (.dup, 1)) (hn : pc + 1 = n) (h1 : v.category = 1) (k : zW l G M fr lo mc ms n lv (v :: v :: st) K F I L Q) : zW l G M fr lo mc ms pc lv (v :: st) K F I L Q := by
  intro p e R s m args below meth c H locs cells slots ls ad ad0 K0 hc hR hP hE hw hl
  subst hn
  exact lv_dup hc.1 hc.2.1 hd ((zc_cat ad v).trans h1) (k p e R s m args below meth c H locs cells slots ls ad ad0 K0 hc hR hP hE ⟨hw.1, ⟨hw.2.1, hw.2.1, hw.2.2⟩⟩ hl)
theorem z_pop {v : Value} (hd : decode M.2.1 pc = .ok (.pop, 1)) (hn : pc + 1 = n) (h1 : v.category = 1) (k : zW l G M fr lo mc ms n lv (st) K F I L Q) : zW l G M fr lo mc ms pc lv (v :: st) K F I L Q := by
  intro p e R s m args below meth c H locs cells slots ls ad ad0 K0 hc hR hP hE hw hl
  subst hn
  exact lv_pop hc.1 hc.2.1 hd ((zc_cat ad v).trans h1) (k p e R s m args below meth c H locs cells slots ls ad ad0 K0 hc hR hP hE ⟨hw.1, hw.2.2⟩ hl)
theorem z_dup_x1 {v u : Value} (hd : decode M.2.1 pc = .ok (.dup_x1, 1)) (hn : pc + 1 = n) (h1 : v.category = 1) (h2 : u.category = 1) (k : zW l G M fr lo mc ms n lv (v :: u :: v :: st) K F I L Q) : zW l G M fr lo mc ms pc lv (v :: u :: st) K F I L Q := by
  intro p e R s m args below meth c H locs cells slots ls ad ad0 K0 hc hR hP hE hw hl
  subst hn
  exact lv_dup_x1 hc.1 hc.2.1 hd ((zc_cat ad v).trans h1) ((zc_cat ad u).trans h2) (k p e R s m args below meth c H locs cells slots ls ad ad0 K0 hc hR hP hE ⟨hw.1, ⟨hw.2.1, hw.2.2.1, hw.2.1, hw.2.2.2⟩⟩ hl)
theorem z_dup2 {v u : Value} (hd : decode M.2.1 pc = .ok (.dup2, 1)) (hn : pc + 1 = n) (h1 : v.category = 1) (h2 : u.category = 1) (k : zW l G M fr lo mc ms n lv (v :: u :: v :: u :: st) K F I L Q) : zW l G M fr lo mc ms pc lv (v :: u :: st) K F I L Q := by
  intro p e R s m args below meth c H locs cells slots ls ad ad0 K0 hc hR hP hE hw hl
  subst hn
  exact lv_dup2_11 hc.1 hc.2.1 hd ((zc_cat ad v).trans h1) ((zc_cat ad u).trans h2) (k p e R s m args below meth c H locs cells slots ls ad ad0 K0 hc hR hP hE ⟨hw.1, ⟨hw.2.1, hw.2.2.1, hw.2.1, hw.2.2.1, hw.2.2.2⟩⟩ hl)
theorem z_iload_n {j : Fin 4} {i : Nat} {x : Int32} (hd : decode M.2.1 pc = .ok (.iload_n j, 1)) (hn : pc + 1 = n) (q : Nat) (hi : (j : Nat) = i) (hq : lv[q]? = some (i, .int x)) (k : zW l G M fr lo mc ms n lv (.int x :: st) K F I L Q) : zW l G M fr lo mc ms pc lv (st) K F I L Q := by
  intro p e R s m args below meth c H locs cells slots ls ad ad0 K0 hc hR hP hE hw hl
  subst hn
  exact lv_iload_n hc.1 hc.2.1 hd hi (zlv hl q hq) (k p e R s m args below meth c H locs cells slots ls ad ad0 K0 hc hR hP hE ⟨hw.1, ⟨trivial, hw.2⟩⟩ hl)
theorem z_iload {i : Nat} {x : Int32} (hd : decode M.2.1 pc = .ok (.iload i, 2)) (hn : pc + 2 = n) (q : Nat) (hq : lv[q]? = some (i, .int x)) (k : zW l G M fr lo mc ms n lv (.int x :: st) K F I L Q) : zW l G M fr lo mc ms pc lv (st) K F I L Q := by
  intro p e R s m args below meth c H locs cells slots ls ad ad0 K0 hc hR hP hE hw hl
  subst hn
  exact lv_iload hc.1 hc.2.1 hd (zlv hl q hq) (k p e R s m args below meth c H locs cells slots ls ad ad0 K0 hc hR hP hE ⟨hw.1, ⟨trivial, hw.2⟩⟩ hl)
theorem z_lload_n {j : Fin 4} {i : Nat} {x : Int64} (hd : decode M.2.1 pc = .ok (.lload_n j, 1)) (hn : pc + 1 = n) (q : Nat) (hi : (j : Nat) = i) (hq : lv[q]? = some (i, .long x)) (k : zW l G M fr lo mc ms n lv (.long x :: st) K F I L Q) : zW l G M fr lo mc ms pc lv (st) K F I L Q := by
  intro p e R s m args below meth c H locs cells slots ls ad ad0 K0 hc hR hP hE hw hl
  subst hn
  exact lv_lload_n hc.1 hc.2.1 hd hi (zlv hl q hq) (k p e R s m args below meth c H locs cells slots ls ad ad0 K0 hc hR hP hE ⟨hw.1, ⟨trivial, hw.2⟩⟩ hl)
theorem z_lload {i : Nat} {x : Int64} (hd : decode M.2.1 pc = .ok (.lload i, 2)) (hn : pc + 2 = n) (q : Nat) (hq : lv[q]? = some (i, .long x)) (k : zW l G M fr lo mc ms n lv (.long x :: st) K F I L Q) : zW l G M fr lo mc ms pc lv (st) K F I L Q := by
  intro p e R s m args below meth c H locs cells slots ls ad ad0 K0 hc hR hP hE hw hl
  subst hn
  exact lv_lload hc.1 hc.2.1 hd (zlv hl q hq) (k p e R s m args below meth c H locs cells slots ls ad ad0 K0 hc hR hP hE ⟨hw.1, ⟨trivial, hw.2⟩⟩ hl)
theorem z_aload_n {j : Fin 4} {i x : Nat} (hd : decode M.2.1 pc = .ok (.aload_n j, 1)) (hn : pc + 1 = n) (q : Nat) (hi : (j : Nat) = i) (hq : lv[q]? = some (i, .ref x)) (k : zW l G M fr lo mc ms n lv (.ref x :: st) K F I L Q) : zW l G M fr lo mc ms pc lv (st) K F I L Q := by
  intro p e R s m args below meth c H locs cells slots ls ad ad0 K0 hc hR hP hE hw hl
  subst hn
  exact lv_aload_n hc.1 hc.2.1 hd hi (zlv hl q hq) (k p e R s m args below meth c H locs cells slots ls ad ad0 K0 hc hR hP hE ⟨hw.1, ⟨zlv_wf hw hq, hw.2⟩⟩ hl)
theorem z_aload {i x : Nat} (hd : decode M.2.1 pc = .ok (.aload i, 2)) (hn : pc + 2 = n) (q : Nat) (hq : lv[q]? = some (i, .ref x)) (k : zW l G M fr lo mc ms n lv (.ref x :: st) K F I L Q) : zW l G M fr lo mc ms pc lv (st) K F I L Q := by
  intro p e R s m args below meth c H locs cells slots ls ad ad0 K0 hc hR hP hE hw hl
  subst hn
  exact lv_aload hc.1 hc.2.1 hd (zlv hl q hq) (k p e R s m args below meth c H locs cells slots ls ad ad0 K0 hc hR hP hE ⟨hw.1, ⟨zlv_wf hw hq, hw.2⟩⟩ hl)
theorem z_aload_nN {j : Fin 4} {i : Nat} (hd : decode M.2.1 pc = .ok (.aload_n j, 1)) (hn : pc + 1 = n) (q : Nat) (hi : (j : Nat) = i) (hq : lv[q]? = some (i, .null)) (k : zW l G M fr lo mc ms n lv (.null :: st) K F I L Q) : zW l G M fr lo mc ms pc lv (st) K F I L Q := by
  intro p e R s m args below meth c H locs cells slots ls ad ad0 K0 hc hR hP hE hw hl
  subst hn
  exact lv_aload_nN hc.1 hc.2.1 hd hi (zlv hl q hq) (k p e R s m args below meth c H locs cells slots ls ad ad0 K0 hc hR hP hE ⟨hw.1, ⟨trivial, hw.2⟩⟩ hl)
theorem z_aloadN {i : Nat} (hd : decode M.2.1 pc = .ok (.aload i, 2)) (hn : pc + 2 = n) (q : Nat) (hq : lv[q]? = some (i, .null)) (k : zW l G M fr lo mc ms n lv (.null :: st) K F I L Q) : zW l G M fr lo mc ms pc lv (st) K F I L Q := by
  intro p e R s m args below meth c H locs cells slots ls ad ad0 K0 hc hR hP hE hw hl
  subst hn
  exact lv_aloadN hc.1 hc.2.1 hd (zlv hl q hq) (k p e R s m args below meth c H locs cells slots ls ad ad0 K0 hc hR hP hE ⟨hw.1, ⟨trivial, hw.2⟩⟩ hl)
theorem z_aload_nQ {j : Fin 4} {i : Nat} {r : Option Nat} (hd : decode M.2.1 pc = .ok (.aload_n j, 1)) (hn : pc + 1 = n) (q : Nat) (hi : (j : Nat) = i) (hq : lv[q]? = some (i, zrf r)) (k : zW l G M fr lo mc ms n lv (zrf r :: st) K F I L Q) : zW l G M fr lo mc ms pc lv st K F I L Q := by
  cases r with
  | none => exact z_aload_nN hd hn q hi hq k
  | some x => exact z_aload_n hd hn q hi hq k
theorem z_aloadQ {i : Nat} {r : Option Nat} (hd : decode M.2.1 pc = .ok (.aload i, 2)) (hn : pc + 2 = n) (q : Nat) (hq : lv[q]? = some (i, zrf r)) (k : zW l G M fr lo mc ms n lv (zrf r :: st) K F I L Q) : zW l G M fr lo mc ms pc lv st K F I L Q := by
  cases r with
  | none => exact z_aloadN hd hn q hq k
  | some x => exact z_aload hd hn q hq k
theorem z_istore_n {j : Fin 4} {i : Nat} {x : Int32} (hd : decode M.2.1 pc = .ok (.istore_n j, 1)) (hn : pc + 1 = n) (hi : (j : Nat) = i) (hi2 : i < M.2.2.1) (hlv : zset lv i (.int x) = lv') (k : zW l G M fr lo mc ms n lv' st K F I L Q) : zW l G M fr lo mc ms pc lv (.int x :: st) K F I L Q := by
  intro p e R s m args below meth c H locs cells slots ls ad ad0 K0 hc hR hP hE hw hl
  subst hn
  subst hlv
  exact lv_istore_n hc.1 hc.2.1 hd hi hl hi2 (zset_map ad lv i (.int x)) (fun ls2 hl2 => k p e R s m args below meth c H locs cells slots ls2 ad ad0 K0 hc hR hP hE ⟨zset_wf hw.1 trivial, hw.2.2⟩ hl2)
theorem z_istore {i : Nat} {x : Int32} (hd : decode M.2.1 pc = .ok (.istore i, 2)) (hn : pc + 2 = n) (hi2 : i < M.2.2.1) (hlv : zset lv i (.int x) = lv') (k : zW l G M fr lo mc ms n lv' st K F I L Q) : zW l G M fr lo mc ms pc lv (.int x :: st) K F I L Q := by
  intro p e R s m args below meth c H locs cells slots ls ad ad0 K0 hc hR hP hE hw hl
  subst hn
  subst hlv
  exact lv_istore hc.1 hc.2.1 hd hl hi2 (zset_map ad lv i (.int x)) (fun ls2 hl2 => k p e R s m args below meth c H locs cells slots ls2 ad ad0 K0 hc hR hP hE ⟨zset_wf hw.1 trivial, hw.2.2⟩ hl2)
theorem z_astore_nS {j : Fin 4} {i x : Nat} (hd : decode M.2.1 pc = .ok (.astore_n j, 1)) (hn : pc + 1 = n) (hi : (j : Nat) = i) (hi2 : i < M.2.2.1) (hlv : zset lv i (.ref x) = lv') (k : zW l G M fr lo mc ms n lv' st K F I L Q) : zW l G M fr lo mc ms pc lv (.ref x :: st) K F I L Q := by
  intro p e R s m args below meth c H locs cells slots ls ad ad0 K0 hc hR hP hE hw hl
  subst hn
  subst hlv
  exact lv_astore_n hc.1 hc.2.1 hd hi hl hi2 (zset_map ad lv i (.ref x)) (fun ls2 hl2 => k p e R s m args below meth c H locs cells slots ls2 ad ad0 K0 hc hR hP hE ⟨zset_wf hw.1 hw.2.1, hw.2.2⟩ hl2)
theorem z_astoreS {i x : Nat} (hd : decode M.2.1 pc = .ok (.astore i, 2)) (hn : pc + 2 = n) (hi2 : i < M.2.2.1) (hlv : zset lv i (.ref x) = lv') (k : zW l G M fr lo mc ms n lv' st K F I L Q) : zW l G M fr lo mc ms pc lv (.ref x :: st) K F I L Q := by
  intro p e R s m args below meth c H locs cells slots ls ad ad0 K0 hc hR hP hE hw hl
  subst hn
  subst hlv
  exact lv_astore hc.1 hc.2.1 hd hl hi2 (zset_map ad lv i (.ref x)) (fun ls2 hl2 => k p e R s m args below meth c H locs cells slots ls2 ad ad0 K0 hc hR hP hE ⟨zset_wf hw.1 hw.2.1, hw.2.2⟩ hl2)
theorem z_astore_nN {j : Fin 4} {i : Nat} (hd : decode M.2.1 pc = .ok (.astore_n j, 1)) (hn : pc + 1 = n) (hi : (j : Nat) = i) (hi2 : i < M.2.2.1) (hlv : zset lv i (.null) = lv') (k : zW l G M fr lo mc ms n lv' st K F I L Q) : zW l G M fr lo mc ms pc lv (.null :: st) K F I L Q := by
  intro p e R s m args below meth c H locs cells slots ls ad ad0 K0 hc hR hP hE hw hl
  subst hn
  subst hlv
  exact lv_astore_nN hc.1 hc.2.1 hd hi hl hi2 (zset_map ad lv i (.null)) (fun ls2 hl2 => k p e R s m args below meth c H locs cells slots ls2 ad ad0 K0 hc hR hP hE ⟨zset_wf hw.1 trivial, hw.2.2⟩ hl2)
theorem z_astoreN {i : Nat} (hd : decode M.2.1 pc = .ok (.astore i, 2)) (hn : pc + 2 = n) (hi2 : i < M.2.2.1) (hlv : zset lv i (.null) = lv') (k : zW l G M fr lo mc ms n lv' st K F I L Q) : zW l G M fr lo mc ms pc lv (.null :: st) K F I L Q := by
  intro p e R s m args below meth c H locs cells slots ls ad ad0 K0 hc hR hP hE hw hl
  subst hn
  subst hlv
  exact lv_astoreN hc.1 hc.2.1 hd hl hi2 (zset_map ad lv i (.null)) (fun ls2 hl2 => k p e R s m args below meth c H locs cells slots ls2 ad ad0 K0 hc hR hP hE ⟨zset_wf hw.1 trivial, hw.2.2⟩ hl2)
theorem z_astore_nQ {j : Fin 4} {i : Nat} {r : Option Nat} (hd : decode M.2.1 pc = .ok (.astore_n j, 1)) (hn : pc + 1 = n) (hi : (j : Nat) = i) (hi2 : i < M.2.2.1) (hlv : zset lv i (zrf r) = lv') (k : zW l G M fr lo mc ms n lv' st K F I L Q) : zW l G M fr lo mc ms pc lv (zrf r :: st) K F I L Q := by
  cases r with
  | none => exact z_astore_nN hd hn hi hi2 hlv k
  | some x => exact z_astore_nS hd hn hi hi2 hlv k
theorem z_astoreQ {i : Nat} {r : Option Nat} (hd : decode M.2.1 pc = .ok (.astore i, 2)) (hn : pc + 2 = n) (hi2 : i < M.2.2.1) (hlv : zset lv i (zrf r) = lv') (k : zW l G M fr lo mc ms n lv' st K F I L Q) : zW l G M fr lo mc ms pc lv (zrf r :: st) K F I L Q := by
  cases r with
  | none => exact z_astoreN hd hn hi2 hlv k
  | some x => exact z_astoreS hd hn hi2 hlv k
theorem z_iinc {i : Nat} {j : Int} {x v : Int32} (hd : decode M.2.1 pc = .ok (.iinc i j, 3)) (hn : pc + 3 = n) (q : Nat) (hq : lv[q]? = some (i, .int x)) (hv : x + Int32.ofInt j = v) (hi2 : i < M.2.2.1) (hlv : zset lv i (.int v) = lv') (k : zW l G M fr lo mc ms n lv' st K F I L Q) : zW l G M fr lo mc ms pc lv st K F I L Q := by
  intro p e R s m args below meth c H locs cells slots ls ad ad0 K0 hc hR hP hE hw hl
  subst hn
  subst hlv
  exact lv_iinc hc.1 hc.2.1 hd hl (k := q) (x := x) (by rw [List.getElem?_map, hq]; rfl) hv hi2 (zset_map ad lv i (.int v)) (fun ls2 hl2 => k p e R s m args below meth c H locs cells slots ls2 ad ad0 K0 hc hR hP hE ⟨zset_wf hw.1 trivial, hw.2⟩ hl2)
theorem z_sub (qs : List Nat) (h : qs.filterMap (fun i => lv[i]?) = lv') (k : zW l G M fr lo mc ms pc lv' st K F I L Q) : zW l G M fr lo mc ms pc lv st K F I L Q := by
  intro p e R s m args below meth c H locs cells slots ls ad ad0 K0 hc hR hP hE hw hl
  have hm : ∀ q ∈ lv', q ∈ lv := by
    intro q hq
    rw [← h] at hq
    obtain ⟨i, -, hi⟩ := List.mem_filterMap.mp hq
    exact List.mem_of_getElem? hi
  refine k p e R s m args below meth c H locs cells slots ls ad ad0 K0 hc hR hP hE ⟨fun q hq => hw.1 q (hm q hq), hw.2⟩ ⟨hl.1, hl.2.1, fun q hq => ?_⟩
  obtain ⟨z, hz, rfl⟩ := List.mem_map.mp hq
  exact hl.2.2 _ (List.mem_map.mpr ⟨z, hm z hz, rfl⟩)
theorem z_mono {fr' lo' mc' ms' : Nat} (h1 : fr' ≤ fr) (h2 : lo' ≤ lo) (h3 : mc' ≤ mc) (h4 : ms' ≤ ms) (k : zW l G M fr' lo' mc' ms' pc lv st K F I L Q) : zW l G M fr lo mc ms pc lv st K F I L Q := by
  intro p e R s m args below meth c H locs cells slots ls ad ad0 K0 hc hR hP hE hw hl
  exact k p e R s m args below meth c H locs cells slots ls ad ad0 K0 hc ⟨Nat.le_trans h1 hR.1, Nat.le_trans h2 hR.2.1, Nat.le_trans (Nat.add_le_add_left h3 _) hR.2.2.1, Nat.le_trans (Nat.add_le_add_left h4 _) hR.2.2.2⟩ hP hE hw hl
theorem z_icmp_eq {x y : Int32} {off : Int} {t : Nat} (hd : decode M.2.1 pc = .ok (.if_icmp .eq off, 3)) (hn : pc + 3 = n) (ht : (pc : Int) + off = (t : Int)) (kt : x = y → zW l G M fr lo mc ms t lv st K F I L Q) (kf : ¬ (x = y) → zW l G M fr lo mc ms n lv st K F I L Q) : zW l G M fr lo mc ms pc lv (.int y :: .int x :: st) K F I L Q := by
  intro p e R s m args below meth c H locs cells slots ls ad ad0 K0 hc hR hP hE hw hl
  subst hn
  exact lv_icmp_eq hc.1 hc.2.1 hd ht (fun h => kt h p e R s m args below meth c H locs cells slots ls ad ad0 K0 hc hR hP hE ⟨hw.1, hw.2.2.2⟩ hl) (fun h => kf (by first | exact h | exact fun g => g h) p e R s m args below meth c H locs cells slots ls ad ad0 K0 hc hR hP hE ⟨hw.1, hw.2.2.2⟩ hl)
theorem z_icmp_ne {x y : Int32} {off : Int} {t : Nat} (hd : decode M.2.1 pc = .ok (.if_icmp .ne off, 3)) (hn : pc + 3 = n) (ht : (pc : Int) + off = (t : Int)) (kt : ¬ x = y → zW l G M fr lo mc ms t lv st K F I L Q) (kf : ¬ (¬ x = y) → zW l G M fr lo mc ms n lv st K F I L Q) : zW l G M fr lo mc ms pc lv (.int y :: .int x :: st) K F I L Q := by
  intro p e R s m args below meth c H locs cells slots ls ad ad0 K0 hc hR hP hE hw hl
  subst hn
  exact lv_icmp_ne hc.1 hc.2.1 hd ht (fun h => kt h p e R s m args below meth c H locs cells slots ls ad ad0 K0 hc hR hP hE ⟨hw.1, hw.2.2.2⟩ hl) (fun h => kf (by first | exact h | exact fun g => g h) p e R s m args below meth c H locs cells slots ls ad ad0 K0 hc hR hP hE ⟨hw.1, hw.2.2.2⟩ hl)
theorem z_icmp_lt {x y : Int32} {off : Int} {t : Nat} (hd : decode M.2.1 pc = .ok (.if_icmp .lt off, 3)) (hn : pc + 3 = n) (ht : (pc : Int) + off = (t : Int)) (kt : x < y → zW l G M fr lo mc ms t lv st K F I L Q) (kf : ¬ (x < y) → zW l G M fr lo mc ms n lv st K F I L Q) : zW l G M fr lo mc ms pc lv (.int y :: .int x :: st) K F I L Q := by
  intro p e R s m args below meth c H locs cells slots ls ad ad0 K0 hc hR hP hE hw hl
  subst hn
  exact lv_icmp_lt hc.1 hc.2.1 hd ht (fun h => kt h p e R s m args below meth c H locs cells slots ls ad ad0 K0 hc hR hP hE ⟨hw.1, hw.2.2.2⟩ hl) (fun h => kf (by first | exact h | exact fun g => g h) p e R s m args below meth c H locs cells slots ls ad ad0 K0 hc hR hP hE ⟨hw.1, hw.2.2.2⟩ hl)
theorem z_icmp_ge {x y : Int32} {off : Int} {t : Nat} (hd : decode M.2.1 pc = .ok (.if_icmp .ge off, 3)) (hn : pc + 3 = n) (ht : (pc : Int) + off = (t : Int)) (kt : y ≤ x → zW l G M fr lo mc ms t lv st K F I L Q) (kf : ¬ (y ≤ x) → zW l G M fr lo mc ms n lv st K F I L Q) : zW l G M fr lo mc ms pc lv (.int y :: .int x :: st) K F I L Q := by
  intro p e R s m args below meth c H locs cells slots ls ad ad0 K0 hc hR hP hE hw hl
  subst hn
  exact lv_icmp_ge hc.1 hc.2.1 hd ht (fun h => kt h p e R s m args below meth c H locs cells slots ls ad ad0 K0 hc hR hP hE ⟨hw.1, hw.2.2.2⟩ hl) (fun h => kf (by first | exact h | exact fun g => g h) p e R s m args below meth c H locs cells slots ls ad ad0 K0 hc hR hP hE ⟨hw.1, hw.2.2.2⟩ hl)
theorem z_icmp_gt {x y : Int32} {off : Int} {t : Nat} (hd : decode M.2.1 pc = .ok (.if_icmp .gt off, 3)) (hn : pc + 3 = n) (ht : (pc : Int) + off = (t : Int)) (kt : y < x → zW l G M fr lo mc ms t lv st K F I L Q) (kf : ¬ (y < x) → zW l G M fr lo mc ms n lv st K F I L Q) : zW l G M fr lo mc ms pc lv (.int y :: .int x :: st) K F I L Q := by
  intro p e R s m args below meth c H locs cells slots ls ad ad0 K0 hc hR hP hE hw hl
  subst hn
  exact lv_icmp_gt hc.1 hc.2.1 hd ht (fun h => kt h p e R s m args below meth c H locs cells slots ls ad ad0 K0 hc hR hP hE ⟨hw.1, hw.2.2.2⟩ hl) (fun h => kf (by first | exact h | exact fun g => g h) p e R s m args below meth c H locs cells slots ls ad ad0 K0 hc hR hP hE ⟨hw.1, hw.2.2.2⟩ hl)
theorem z_icmp_le {x y : Int32} {off : Int} {t : Nat} (hd : decode M.2.1 pc = .ok (.if_icmp .le off, 3)) (hn : pc + 3 = n) (ht : (pc : Int) + off = (t : Int)) (kt : x ≤ y → zW l G M fr lo mc ms t lv st K F I L Q) (kf : ¬ (x ≤ y) → zW l G M fr lo mc ms n lv st K F I L Q) : zW l G M fr lo mc ms pc lv (.int y :: .int x :: st) K F I L Q := by
  intro p e R s m args below meth c H locs cells slots ls ad ad0 K0 hc hR hP hE hw hl
  subst hn
  exact lv_icmp_le hc.1 hc.2.1 hd ht (fun h => kt h p e R s m args below meth c H locs cells slots ls ad ad0 K0 hc hR hP hE ⟨hw.1, hw.2.2.2⟩ hl) (fun h => kf (by first | exact h | exact fun g => g h) p e R s m args below meth c H locs cells slots ls ad ad0 K0 hc hR hP hE ⟨hw.1, hw.2.2.2⟩ hl)
theorem z_if_eq {x : Int32} {off : Int} {t : Nat} (hd : decode M.2.1 pc = .ok (.ifCond .eq off, 3)) (hn : pc + 3 = n) (ht : (pc : Int) + off = (t : Int)) (kt : x = 0 → zW l G M fr lo mc ms t lv st K F I L Q) (kf : ¬ (x = 0) → zW l G M fr lo mc ms n lv st K F I L Q) : zW l G M fr lo mc ms pc lv (.int x :: st) K F I L Q := by
  intro p e R s m args below meth c H locs cells slots ls ad ad0 K0 hc hR hP hE hw hl
  subst hn
  exact lv_if_eq hc.1 hc.2.1 hd ht (fun h => kt h p e R s m args below meth c H locs cells slots ls ad ad0 K0 hc hR hP hE ⟨hw.1, hw.2.2⟩ hl) (fun h => kf (by first | exact h | exact fun g => g h) p e R s m args below meth c H locs cells slots ls ad ad0 K0 hc hR hP hE ⟨hw.1, hw.2.2⟩ hl)
theorem z_if_ne {x : Int32} {off : Int} {t : Nat} (hd : decode M.2.1 pc = .ok (.ifCond .ne off, 3)) (hn : pc + 3 = n) (ht : (pc : Int) + off = (t : Int)) (kt : ¬ x = 0 → zW l G M fr lo mc ms t lv st K F I L Q) (kf : ¬ (¬ x = 0) → zW l G M fr lo mc ms n lv st K F I L Q) : zW l G M fr lo mc ms pc lv (.int x :: st) K F I L Q := by
  intro p e R s m args below meth c H locs cells slots ls ad ad0 K0 hc hR hP hE hw hl
  subst hn
  exact lv_if_ne hc.1 hc.2.1 hd ht (fun h => kt h p e R s m args below meth c H locs cells slots ls ad ad0 K0 hc hR hP hE ⟨hw.1, hw.2.2⟩ hl) (fun h => kf (by first | exact h | exact fun g => g h) p e R s m args below meth c H locs cells slots ls ad ad0 K0 hc hR hP hE ⟨hw.1, hw.2.2⟩ hl)
theorem z_if_lt {x : Int32} {off : Int} {t : Nat} (hd : decode M.2.1 pc = .ok (.ifCond .lt off, 3)) (hn : pc + 3 = n) (ht : (pc : Int) + off = (t : Int)) (kt : x < 0 → zW l G M fr lo mc ms t lv st K F I L Q) (kf : ¬ (x < 0) → zW l G M fr lo mc ms n lv st K F I L Q) : zW l G M fr lo mc ms pc lv (.int x :: st) K F I L Q := by
  intro p e R s m args below meth c H locs cells slots ls ad ad0 K0 hc hR hP hE hw hl
  subst hn
  exact lv_if_lt hc.1 hc.2.1 hd ht (fun h => kt h p e R s m args below meth c H locs cells slots ls ad ad0 K0 hc hR hP hE ⟨hw.1, hw.2.2⟩ hl) (fun h => kf (by first | exact h | exact fun g => g h) p e R s m args below meth c H locs cells slots ls ad ad0 K0 hc hR hP hE ⟨hw.1, hw.2.2⟩ hl)
theorem z_if_ge {x : Int32} {off : Int} {t : Nat} (hd : decode M.2.1 pc = .ok (.ifCond .ge off, 3)) (hn : pc + 3 = n) (ht : (pc : Int) + off = (t : Int)) (kt : 0 ≤ x → zW l G M fr lo mc ms t lv st K F I L Q) (kf : ¬ (0 ≤ x) → zW l G M fr lo mc ms n lv st K F I L Q) : zW l G M fr lo mc ms pc lv (.int x :: st) K F I L Q := by
  intro p e R s m args below meth c H locs cells slots ls ad ad0 K0 hc hR hP hE hw hl
  subst hn
  exact lv_if_ge hc.1 hc.2.1 hd ht (fun h => kt h p e R s m args below meth c H locs cells slots ls ad ad0 K0 hc hR hP hE ⟨hw.1, hw.2.2⟩ hl) (fun h => kf (by first | exact h | exact fun g => g h) p e R s m args below meth c H locs cells slots ls ad ad0 K0 hc hR hP hE ⟨hw.1, hw.2.2⟩ hl)
theorem z_if_gt {x : Int32} {off : Int} {t : Nat} (hd : decode M.2.1 pc = .ok (.ifCond .gt off, 3)) (hn : pc + 3 = n) (ht : (pc : Int) + off = (t : Int)) (kt : 0 < x → zW l G M fr lo mc ms t lv st K F I L Q) (kf : ¬ (0 < x) → zW l G M fr lo mc ms n lv st K F I L Q) : zW l G M fr lo mc ms pc lv (.int x :: st) K F I L Q := by
  intro p e R s m args below meth c H locs cells slots ls ad ad0 K0 hc hR hP hE hw hl
  subst hn
  exact lv_if_gt hc.1 hc.2.1 hd ht (fun h => kt h p e R s m args below meth c H locs cells slots ls ad ad0 K0 hc hR hP hE ⟨hw.1, hw.2.2⟩ hl) (fun h => kf (by first | exact h | exact fun g => g h) p e R s m args below meth c H locs cells slots ls ad ad0 K0 hc hR hP hE ⟨hw.1, hw.2.2⟩ hl)
theorem z_if_le {x : Int32} {off : Int} {t : Nat} (hd : decode M.2.1 pc = .ok (.ifCond .le off, 3)) (hn : pc + 3 = n) (ht : (pc : Int) + off = (t : Int)) (kt : x ≤ 0 → zW l G M fr lo mc ms t lv st K F I L Q) (kf : ¬ (x ≤ 0) → zW l G M fr lo mc ms n lv st K F I L Q) : zW l G M fr lo mc ms pc lv (.int x :: st) K F I L Q := by
  intro p e R s m args below meth c H locs cells slots ls ad ad0 K0 hc hR hP hE hw hl
  subst hn
  exact lv_if_le hc.1 hc.2.1 hd ht (fun h => kt h p e R s m args below meth c H locs cells slots ls ad ad0 K0 hc hR hP hE ⟨hw.1, hw.2.2⟩ hl) (fun h => kf (by first | exact h | exact fun g => g h) p e R s m args below meth c H locs cells slots ls ad ad0 K0 hc hR hP hE ⟨hw.1, hw.2.2⟩ hl)
theorem z_goto {off : Int} {t : Nat} (hd : decode M.2.1 pc = .ok (.goto off, 3)) (ht : (pc : Int) + off = (t : Int)) (k : zW l G M fr lo mc ms t lv st K F I L Q) : zW l G M fr lo mc ms pc lv st K F I L Q := by
  intro p e R s m args below meth c H locs cells slots ls ad ad0 K0 hc hR hP hE hw hl
  exact lv_goto hc.1 hc.2.1 hd ht (k p e R s m args below meth c H locs cells slots ls ad ad0 K0 hc hR hP hE hw hl)
theorem z_ifnull {r : Option Nat} {off : Int} {t : Nat} (hd : decode M.2.1 pc = .ok (.ifnull off, 3)) (hn : pc + 3 = n) (ht : (pc : Int) + off = (t : Int)) (kt : r = none → zW l G M fr lo mc ms t lv st K F I L Q) (kf : ¬ r = none → zW l G M fr lo mc ms n lv st K F I L Q) : zW l G M fr lo mc ms pc lv (zrf r :: st) K F I L Q := by
  intro p e R s m args below meth c H locs cells slots ls ad ad0 K0 hc hR hP hE hw hl
  subst hn
  cases r with
  | none => exact lv_ifnullN hc.1 hc.2.1 hd ht (kt rfl p e R s m args below meth c H locs cells slots ls ad ad0 K0 hc hR hP hE ⟨hw.1, hw.2.2⟩ hl)
  | some x => exact lv_ifnull hc.1 hc.2.1 hd (kf (fun h => by cases h) p e R s m args below meth c H locs cells slots ls ad ad0 K0 hc hR hP hE ⟨hw.1, hw.2.2⟩ hl)
theorem z_ifnonnull {r : Option Nat} {off : Int} {t : Nat} (hd : decode M.2.1 pc = .ok (.ifnonnull off, 3)) (hn : pc + 3 = n) (ht : (pc : Int) + off = (t : Int)) (kt : ¬ r = none → zW l G M fr lo mc ms t lv st K F I L Q) (kf : r = none → zW l G M fr lo mc ms n lv st K F I L Q) : zW l G M fr lo mc ms pc lv (zrf r :: st) K F I L Q := by
  intro p e R s m args below meth c H locs cells slots ls ad ad0 K0 hc hR hP hE hw hl
  subst hn
  cases r with
  | none => exact lv_ifnonnullN hc.1 hc.2.1 hd (kf rfl p e R s m args below meth c H locs cells slots ls ad ad0 K0 hc hR hP hE ⟨hw.1, hw.2.2⟩ hl)
  | some x => exact lv_ifnonnull hc.1 hc.2.1 hd ht (kt (fun h => by cases h) p e R s m args below meth c H locs cells slots ls ad ad0 K0 hc hR hP hE ⟨hw.1, hw.2.2⟩ hl)
theorem z_tableOut {dflt lo1 hi1 : Int} {offs : Array Int} {len : Nat} {x : Int32} {t : Nat} (hd : decode M.2.1 pc = .ok (.tableswitch dflt lo1 hi1 offs, len)) (h : x.toInt < lo1 ∨ hi1 < x.toInt) (ht : (pc : Int) + dflt = (t : Int)) (k : zW l G M fr lo mc ms t lv st K F I L Q) : zW l G M fr lo mc ms pc lv (.int x :: st) K F I L Q := by
  intro p e R s m args below meth c H locs cells slots ls ad ad0 K0 hc hR hP hE hw hl
  exact lv_tableOut hc.1 hc.2.1 hd h ht (k p e R s m args below meth c H locs cells slots ls ad ad0 K0 hc hR hP hE ⟨hw.1, hw.2.2⟩ hl)
theorem z_tableIn {dflt lo1 hi1 : Int} {offs : Array Int} {len : Nat} {x : Int32} {off : Int} {t : Nat} (hd : decode M.2.1 pc = .ok (.tableswitch dflt lo1 hi1 offs, len)) (h1 : ¬ x.toInt < lo1) (h2 : ¬ hi1 < x.toInt) (ho : offs[(x.toInt - lo1).toNat]? = some off) (ht : (pc : Int) + off = (t : Int)) (k : zW l G M fr lo mc ms t lv st K F I L Q) : zW l G M fr lo mc ms pc lv (.int x :: st) K F I L Q := by
  intro p e R s m args below meth c H locs cells slots ls ad ad0 K0 hc hR hP hE hw hl
  exact lv_tableIn hc.1 hc.2.1 hd h1 h2 ho ht (k p e R s m args below meth c H locs cells slots ls ad ad0 K0 hc hR hP hE ⟨hw.1, hw.2.2⟩ hl)
theorem z_lookup {dflt : Int} {ps : Array (Int × Int)} {len : Nat} {x : Int32} {off : Int} {t : Nat} (hd : decode M.2.1 pc = .ok (.lookupswitch dflt ps, len)) (hp : (ps.toList.zip (ps.toList.drop 1)).all (fun (a, next) => a.1 < next.1) = true) (ho : Op.lookupswitch.offset ps.toList dflt x.toInt = off) (ht : (pc : Int) + off = (t : Int)) (k : zW l G M fr lo mc ms t lv st K F I L Q) : zW l G M fr lo mc ms pc lv (.int x :: st) K F I L Q := by
  intro p e R s m args below meth c H locs cells slots ls ad ad0 K0 hc hR hP hE hw hl
  exact lv_lookup hc.1 hc.2.1 hd hp ho ht (k p e R s m args below meth c H locs cells slots ls ad ad0 K0 hc hR hP hE ⟨hw.1, hw.2.2⟩ hl)
end Z2
