/-! L90: the law's calls, one after another (printed by mkops.py) -/
/-- the call of land -/
def zLandOK (Ln : Nat) (nf : Nat → Bool) (xs : Nat → Int32) : Prop := ∀ (K : zKd) (F : zFd) (I : zId) (L : zLd) (n v : Nat), zWI Ln nf xs (n, K, F, I, L) → v + 6 ≤ Ln → Ln ≤ 384 → zOK Ln nf xs v (zg (zin (nI v + 1) Ln) (zc1 (F_X0_land 1000 ((hI ((n, K, F, I, L) : zSt)) 25 ((nI v + 1).toNatClampNeg)) 1902 ((n, K, F, I, L) : zSt)) (fun c_59 => zn2 (fun x_57 h_58 => zpay c_59 (zka (hK h_58) 25 64 (fun n_61 => zg (zin (nI v + 1) n_61) (zg (zMok (hK h_58) (jF h_58)) (zka (hK h_58) 1860 6 (fun n_65 => zb2 (F_X7_land (hK h_58) (jF h_58) ((hI h_58) 25 ((nI v + 1).toNatClampNeg)) (hI h_58)) (fun x_68 I_69 => zlet (zsFI h_58 (jF h_58) I_69) (fun h_70 => zg (zMok (hK h_70) (jF h_70)) (zka (hK h_70) 1860 6 (fun n_73 => zb1 (F_X7_thrown (hI h_70)) (fun x_76 => if x_76 = x_57 then if ¬ x_57 = 0 then zlet (nI v + 6) (fun v4_77 => some ((0, 0), .inl (v4_77, h_70))) else zka (hK h_70) 1902 67 (fun n_79 => zg (zin 0 n_79) (if (lg_cmp ((hL h_70) 1902 0) x_68.toInt64) = 0 then zlet (nI v + 6) (fun v4_82 => some ((0, 0), .inl (v4_82, h_70))) else some ((0, 0), .inr (.inr (0, h_70))))) else some ((0, 0), .inr (.inr (0, h_70)))))))))))))))))
section L90
variable {K : zKd} {F : zFd} {I : zId} {L : zLd} {n Ln v : Nat} {nf : Nat → Bool} {xs : Nat → Int32}
set_option maxHeartbeats 4000000 in
theorem L_step (hL : zLandOK Ln nf xs) (h : zWI Ln nf xs (n, K, F, I, L)) (hv : v + 6 ≤ Ln) (hLn : Ln ≤ 384) : zOK Ln nf xs v (F_L_law_L23 25 1000 1902 (nI v) (n, K, F, I, L)) := by
  have k25 : K 25 = some (64, Ln) := by
    obtain ⟨a, N, P, X, b, m, t, ft, hx, hg, -⟩ := h
    exact (hg.1 25 (by decide)).1
  have hlt : ¬ (nI Ln - 6 < nI v) := by
    rw [iL, i_sub (by rw [nI_toInt (show Ln < 2 ^ 31 by omega)]; show _ ≤ _ - (6 : Int32).toInt; rw [show (6 : Int32).toInt = 6 from rfl]; omega) (by rw [nI_toInt (show Ln < 2 ^ 31 by omega), show (6 : Int32).toInt = 6 from rfl]; omega), nI_toInt (show Ln < 2 ^ 31 by omega), nI_toInt (show v < 2 ^ 31 by omega), show (6 : Int32).toInt = 6 from rfl]
    omega
  unfold F_L_law_L23
  have e1 : hK ((n, K, F, I, L) : zSt) 25 = some (64, Ln) := k25
  rw [zka_eq e1, if_neg hlt, zin_n (show v < Ln by omega) (show Ln < 2 ^ 31 by omega), zg_true]
  refine zOK_ite (fun _ => L_op0 h hv hLn) fun _ => ?_
  refine zOK_ite (fun _ => hL K F I L n v h hv hLn) fun _ => ?_
  refine zOK_ite (fun _ => L_op2 h hv hLn) fun _ => ?_
  refine zOK_ite (fun _ => L_op3 h hv hLn) fun _ => ?_
  refine zOK_ite (fun _ => L_op4 h hv hLn) fun _ => ?_
  refine zOK_ite (fun _ => L_op5 h hv hLn) fun _ => ?_
  refine zOK_ite (fun _ => L_op6 h hv hLn) fun _ => ?_
  refine zOK_ite (fun _ => L_op7 h hv hLn) fun _ => ?_
  refine zOK_ite (fun _ => L_op8 h hv hLn) fun _ => ?_
  refine zOK_ite (fun _ => L_op9 h hv hLn) fun _ => ?_
  refine zOK_ite (fun _ => L_op10 h hv hLn) fun _ => ?_
  refine zOK_ite (fun _ => L_op11 h hv hLn) fun _ => ?_
  refine zOK_ite (fun _ => L_op12 h hv hLn) fun _ => ?_
  refine zOK_ite (fun _ => L_op13 h hv hLn) fun _ => ?_
  refine zOK_ite (fun _ => L_op14 h hv hLn) fun _ => ?_
  refine zOK_ite (fun _ => L_op15 h hv hLn) fun _ => ?_
  refine zOK_ite (fun _ => L_op16 h hv hLn) fun _ => ?_
  refine zOK_ite (fun _ => L_op17 h hv hLn) fun _ => ?_
  refine zOK_ite (fun _ => L_op18 h hv hLn) fun _ => ?_
  refine zOK_ite (fun _ => L_op19 h hv hLn) fun _ => ?_
  refine zOK_ite (fun _ => L_op20 h hv hLn) fun _ => ?_
  refine zOK_ite (fun _ => L_op21 h hv hLn) fun _ => ?_
  refine zOK_ite (fun _ => L_op22 h hv hLn) fun _ => ?_
  refine zOK_ite (fun _ => L_op23 h hv hLn) fun _ => ?_
  refine zOK_ite (fun _ => L_op24 h hv hLn) fun _ => ?_
  refine zOK_ite (fun _ => L_op25 h hv hLn) fun _ => ?_
  refine zOK_ite (fun _ => L_op26 h hv hLn) fun _ => ?_
  refine zOK_ite (fun _ => L_op27 h hv hLn) fun _ => ?_
  refine zOK_ite (fun _ => L_op28 h hv hLn) fun _ => ?_
  refine zOK_ite (fun _ => L_op29 h hv hLn) fun _ => ?_
  refine zOK_ite (fun _ => L_op30 h hv hLn) fun _ => ?_
  refine zOK_ite (fun _ => L_op31 h hv hLn) fun _ => ?_
  refine zOK_ite (fun _ => L_op32 h hv hLn) fun _ => ?_
  refine zOK_ite (fun _ => L_op33 h hv hLn) fun _ => ?_
  refine zOK_ite (fun _ => L_op34 h hv hLn) fun _ => ?_
  refine zOK_ite (fun _ => L_op35 h hv hLn) fun _ => ?_
  exact L_op36 h
theorem L_end (h : zWI Ln nf xs (n, K, F, I, L)) (hv : ¬ v + 6 ≤ Ln) (hLn : Ln ≤ 384) (hv2 : v < 1000) : F_L_law_L23 25 1000 1902 (nI v) (n, K, F, I, L) = some ((0, 0), .inr (.inl (n, K, F, I, L))) := by
  have k25 : K 25 = some (64, Ln) := by
    obtain ⟨a, N, P, X, b, m, t, ft, hx, hg, -⟩ := h
    exact (hg.1 25 (by decide)).1
  have hlt : nI Ln - 6 < nI v := by
    rw [iL, i_sub (by rw [nI_toInt (show Ln < 2 ^ 31 by omega)]; show _ ≤ _ - (6 : Int32).toInt; rw [show (6 : Int32).toInt = 6 from rfl]; omega) (by rw [nI_toInt (show Ln < 2 ^ 31 by omega), show (6 : Int32).toInt = 6 from rfl]; omega), nI_toInt (show Ln < 2 ^ 31 by omega), nI_toInt (show v < 2 ^ 31 by omega), show (6 : Int32).toInt = 6 from rfl]
    omega
  unfold F_L_law_L23
  have e1 : hK ((n, K, F, I, L) : zSt) 25 = some (64, Ln) := k25
  rw [zka_eq e1, if_pos hlt]
theorem L_loop (hL : zLandOK Ln nf xs) (hLn : Ln ≤ 384) : ∀ (k v : Nat) (h : zSt), Ln < v + 6 * (k + 1) → v < 1000 → zWI Ln nf xs h → ∃ c h', zloopC (fun s : Int32 × zSt => F_L_law_L23 25 1000 1902 s.1 s.2) (nI v, h) = some (c, .inl h') ∧ c.1 ≤ 18000 * k ∧ c.2 ≤ 85000 * k := by
  intro k
  induction k with
  | zero =>
    rintro v ⟨n, K, F, I, L⟩ hv hv2 h
    refine ⟨(0, 0), (n, K, F, I, L), zloopC_end ?_, by decide, by decide⟩
    exact L_end h (by omega) hLn hv2
  | succ k ih =>
    rintro v ⟨n, K, F, I, L⟩ hv hv2 h
    by_cases c : v + 6 ≤ Ln
    · obtain ⟨c1, c2, h', e1, e2, e3, e4⟩ := L_step hL h c hLn
      obtain ⟨⟨d1, d2⟩, h2, f1, f2, f3⟩ := ih (v + 6) h' (by omega) (by omega) e2
      refine ⟨(d1 + c1, d2 + c2), h2, ?_, ?_, ?_⟩
      · rw [zloopC_step (x' := (nI (v + 6), h')) (c := (c1, c2)) e1, f1]
        rfl
      · show d1 + c1 ≤ _
        have : d1 ≤ 18000 * k := f2
        omega
      · show d2 + c2 ≤ _
        have : d2 ≤ 85000 * k := f3
        omega
    · exact ⟨(0, 0), (n, K, F, I, L), zloopC_end (L_end h c hLn hv2), Nat.zero_le _, Nat.zero_le _⟩
end L90
