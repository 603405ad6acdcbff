/-! Z9: expressions: what a receiver of Expr.by does -/
section Z9
variable {l : Launch} {G : zGt} {M : zM} {fr lo mc ms pc n : Nat} {lv lv' : List (Nat × Value)} {st : List Value} {K : zKd} {F : zFd} {I : zId} {L : zLd} {Q : zQt}
def zBy (l : Launch) (G : zGt) (K : zKd) (F : zFd) (L : zLd) (fb lb o v : Nat) (I : zId) (r : Int32) : Prop :=
  (∃ n, K o = some (11, n) ∧ zMet l G yX13_by (ws_ yX13_by cX13_by 2 (some .int)) fb lb 0 0 [.ref o, .ref v] K F I L (zQe (.inl (some (.int r))) K F I L)) ∨
  (∃ n, K o = some (12, n) ∧ zMet l G yX14_by (ws_ yX14_by cX14_by 2 (some .int)) fb lb 0 0 [.ref o, .ref v] K F I L (zQe (.inl (some (.int r))) K F I L)) ∨
  (∃ n, K o = some (13, n) ∧ zMet l G yX15_by (ws_ yX15_by cX15_by 4 (some .int)) fb lb 0 0 [.ref o, .ref v] K F I L (zQe (.inl (some (.int r))) K F I L)) ∨
  (∃ n, K o = some (14, n) ∧ zMet l G yX16_by (ws_ yX16_by cX16_by 2 (some .int)) fb lb 0 0 [.ref o, .ref v] K F I L (zQe (.inl (some (.int r))) K F I L))
theorem zby_d : ("SableCrown$Expr" : String) ≠ "java/lang/invoke/MethodHandle" ∧ ("SableCrown$Expr" : String) ≠ "java/lang/invoke/VarHandle" ∧ (parseMethodDescriptor "(LSableCrown$View;)I").map (fun d => d.parameters.length) = some 1 := by decide +kernel
theorem z_by {idx o v fb lb : Nat} {r : Int32} (hb : zBy l G K F L fb lb o v I r) (hd : decode M.2.1 pc = .ok (.invokevirtual idx, 3)) (hn : pc + 3 = n) (hq1 : Cond.methodLink M.1 idx ⟨"SableCrown$Expr", "by", "(LSableCrown$View;)I"⟩ ∈ lw_all) (hfr : fb + 1 ≤ fr) (hlo : 23 + lb ≤ lo) (hst : (st.map fun v => v.category).sum ≤ 8)
    (kk : zW l G M fr lo mc ms n lv (.int r :: st) K F I L Q) : zW l G M fr lo mc ms pc lv (.ref v :: .ref o :: st) K F I L Q := by
  rcases hb with ⟨n0, hk, hm⟩ | ⟨n0, hk, hm⟩ | ⟨n0, hk, hm⟩ | ⟨n0, hk, hm⟩
  · exact z_cA (x := ⟨"SableCrown$Expr", "by", "(LSableCrown$View;)I"⟩) (owner := "SableCrown$Expr") (As := [.ref v]) (st := st) (mc2 := mc) (ms2 := ms) hm hd hn hq1 q876 q891 q887 q140 q888 q875 zby_d rfl ⟨hfr, by omega⟩ hk rfl rfl rfl hst (Nat.le_refl _) (Nat.le_refl _) kk
  · exact z_cA (x := ⟨"SableCrown$Expr", "by", "(LSableCrown$View;)I"⟩) (owner := "SableCrown$Expr") (As := [.ref v]) (st := st) (mc2 := mc) (ms2 := ms) hm hd hn hq1 q876 q890 q884 q141 q885 q875 zby_d rfl ⟨hfr, by omega⟩ hk rfl rfl rfl hst (Nat.le_refl _) (Nat.le_refl _) kk
  · exact z_cA (x := ⟨"SableCrown$Expr", "by", "(LSableCrown$View;)I"⟩) (owner := "SableCrown$Expr") (As := [.ref v]) (st := st) (mc2 := mc) (ms2 := ms) hm hd hn hq1 q876 q877 q878 q142 q879 q875 zby_d rfl ⟨hfr, by omega⟩ hk rfl rfl rfl hst (Nat.le_refl _) (Nat.le_refl _) kk
  · exact z_cA (x := ⟨"SableCrown$Expr", "by", "(LSableCrown$View;)I"⟩) (owner := "SableCrown$Expr") (As := [.ref v]) (st := st) (mc2 := mc) (ms2 := ms) hm hd hn hq1 q876 q889 q881 q143 q882 q875 zby_d rfl ⟨hfr, by omega⟩ hk rfl rfl rfl hst (Nat.le_refl _) (Nat.le_refl _) kk
theorem zRoom_mono {s : State} {pl : Platform} {r r' : Room} (h : s.hasRoom pl r' = true) (h1 : r.frames ≤ r'.frames) (h2 : r.locals ≤ r'.locals) (h3 : r.cells ≤ r'.cells) (h4 : r.slots ≤ r'.slots) : s.hasRoom pl r = true := by
  unfold State.hasRoom at h ⊢
  simp only [Bool.and_eq_true, decide_eq_true_eq] at h ⊢
  obtain ⟨⟨⟨⟨a, b1, b2, b3, b4, b5⟩, c1⟩, c2⟩, c3⟩ := h
  exact ⟨⟨⟨⟨by omega, by omega, by omega, by omega, by omega, b5⟩, by omega⟩, by omega⟩, c3⟩
theorem zMet.up {y : MethodName} {ws : List Cond} {fr' lo' : Nat} {As : List Value} (h : zMet l G y ws fr lo mc ms As K F I L Q) (h1 : fr ≤ fr') (h2 : lo ≤ lo') : zMet l G y ws fr' lo' mc ms As K F I L Q := by
  intro ad p e ha hc hk s m args below hf happ hP hK
  refine h ad p e ha hc hk s m args below hf ?_ hP hK
  rw [Spec.appliesLoose_iff hf] at happ ⊢
  obtain ⟨a1, a2, a3, a4, a5, a6, a7, a8⟩ := happ
  exact ⟨a1, a2, a3, a4, a5, a6, zRoom_mono a7 h1 h2 (Nat.le_refl _) (Nat.le_refl _), a8⟩
end Z9
