/-! Z11: the budget's short forms, rules of allocation over a cost-first result -/
section Z11
variable {l : Launch} {G : zGt} {M : zM} {fr lo mc ms mc' ms' pc n : Nat} {lv lv' : List (Nat × Value)} {st : List Value} {K K1 : zKd} {F F1 : zFd} {I I1 : zId} {L L1 : zLd} {Q : zQt} {h h1 : zSt}
theorem z_pay {c k : Nat × Nat} {E W9 : Nat} (kk : zW l G M fr lo (k.1 + (c.1 + E)) (k.2 + (c.2 + W9)) pc lv st K F I L Q) : zW l G M fr lo ((c.1 + k.1, c.2 + k.2).1 + E) ((c.1 + k.1, c.2 + k.2).2 + W9) pc lv st K F I L Q := by
  have e1 : (c.1 + k.1, c.2 + k.2).1 + E = k.1 + (c.1 + E) := by show c.1 + k.1 + E = _; omega
  have e2 : (c.1 + k.1, c.2 + k.2).2 + W9 = k.2 + (c.2 + W9) := by show c.2 + k.2 + W9 = _; omega
  rw [e1, e2]; exact kk
theorem z_eq (e1 : mc = mc') (e2 : ms = ms') (kk : zW l G M fr lo mc' ms' pc lv st K F I L Q) : zW l G M fr lo mc ms pc lv st K F I L Q := by
  subst e1; subst e2; exact kk
theorem z_newT {c idx N x m w : Nat} {C : String} (hd : decode M.2.1 pc = .ok (.new idx, 3)) (hn : pc + 3 = n) (hc : zOk c) (hC : ∃ q : vw_C, zCl[c]? = some q ∧ q.1 = C ∧ Cond.instantiable C q.2.2 ∈ lw_all) (hq1 : Cond.classLink M.1 idx C ∈ lw_all) (hq2 : Cond.initialized C ∈ lw_all) (hf : zfree h = true) (ex : x = hN h) (e : h1 = znA h c 0) (hNN : zN c = N)
    (kk : zW l G M fr lo m w n lv (.ref x :: st) (hK h1) (jF h1) (hI h1) (hL h1) Q) : zW l G M fr lo (1 + m) (N + w) pc lv st (hK h) (jF h) (hI h) (hL h) Q :=
  z_eq (Nat.add_comm _ _) (Nat.add_comm _ _) (z_newS hd hn hc hC hq1 hq2 hf ex e hNN kk)
theorem z_newaT {t N x m w : Nat} {i : Int32} (atype : ArrayType) (hd : decode M.2.1 pc = .ok (.newarray atype, 2)) (hn : pc + 2 = n) (hta : newarray.typeOf atype = zAr t) (ht : t < 4) (hq1 : Cond.arrayClass (newarray.typeOf atype) ∈ lw_all) (hi : zarrn i = true) (hN' : i.toNatClampNeg = N) (hby : componentBytes (zAr t) ≤ 8) (hf : zfree h = true) (ex : x = hN h) (e : h1 = znA h (64 + t) N)
    (kk : zW l G M fr lo m w n lv (.ref x :: st) (hK h1) (jF h1) (hI h1) (hL h1) Q) : zW l G M fr lo (1 + m) (N + w) pc lv (.int i :: st) (hK h) (jF h) (hI h) (hL h) Q :=
  z_eq (Nat.add_comm _ _) (Nat.add_comm _ _) (z_newaS atype hd hn hta ht hq1 hi hN' hby hf ex e kk)
theorem z_anewT {t N x m w idx : Nat} {i : Int32} {C : String} (hd : decode M.2.1 pc = .ok (.anewarray idx, 3)) (hn : pc + 3 = n) (hta : (t = 4 ∧ C = "java/lang/Object") ∨ (t = 5 ∧ C = "java/lang/String")) (hq1 : Cond.classLink M.1 idx C ∈ lw_all) (hi : zarrn i = true) (hN' : i.toNatClampNeg = N) (hf : zfree h = true) (ex : x = hN h) (e : h1 = znA h (64 + t) N)
    (kk : zW l G M fr lo m w n lv (.ref x :: st) (hK h1) (jF h1) (hI h1) (hL h1) Q) : zW l G M fr lo (1 + m) (N + w) pc lv (.int i :: st) (hK h) (jF h) (hI h) (hL h) Q :=
  z_eq (Nat.add_comm _ _) (Nat.add_comm _ _) (z_anewS hd hn hta hq1 hi hN' hf ex e kk)
end Z11
theorem z_payE {l : Launch} {G : zGt} {M : zM} {fr lo pc : Nat} {lv : List (Nat × Value)} {st : List Value} {K : zKd} {F : zFd} {I : zId} {L : zLd} {Q : zQt} {c c' k : Nat × Nat} {E W9 : Nat} (e : (c'.1 + k.1, c'.2 + k.2) = c) (kk : zW l G M fr lo (k.1 + (c'.1 + E)) (k.2 + (c'.2 + W9)) pc lv st K F I L Q) : zW l G M fr lo (c.1 + E) (c.2 + W9) pc lv st K F I L Q := by
  subst e; exact z_pay kk
def zsFI (h : zSt) (F : zFd) (I : zId) : zSt := (hN h, hK h, F, I, hL h)
theorem z_toFI {l : Launch} {G : zGt} {M : zM} {fr lo mc ms pc : Nat} {lv : List (Nat × Value)} {st : List Value} {F : zFd} {I : zId} {Q : zQt} {h h1 : zSt} (e : h1 = zsFI h F I) (k : zW l G M fr lo mc ms pc lv st (hK h1) (jF h1) (hI h1) (hL h1) Q) : zW l G M fr lo mc ms pc lv st (hK h) F I (hL h) Q := by
  subst e; exact k
