/-! L04: takes, hunts, pays, grows, goes -/
section L04
variable {K : zKd} {F : zFd} {I : zId} {a N o : Nat} {P : zP}
theorem sInv.at' (hp : pInv P) {S : zS} (h : sInv P S) {b : Nat} (hb : b < pnb P) : S 4 b = nI (sp_f S b) ∧ sp_f S b < pnf P := by
  obtain ⟨f, h1, h2⟩ := (h.1 b hb).1
  have hf8 := hp.1
  have : sp_f S b = f := by
    unfold sp_f
    rw [h2]
    exact nI_clamp (by omega)
  rw [this]; exact ⟨h2, h1⟩
theorem F_takes_ok (hS : zSL K F o) (hL : zLL K F I a N P) (hp : pInv P) (ho : o + 10 ≤ a ∨ N ≤ o) (hi : sInv P (zcv (pnf P) (pnb P) I o)) {b : Nat} (hb : b < pnb P) : ∃ I', F_X6_takes K F o a (nI b) I = some (sp_tk P (zcv (pnf P) (pnb P) I o) b, I') ∧ ∀ x, x ≠ a + 11 → I' x = I x := by
  have hS0 := hS
  have hL0 := hL
  obtain ⟨h6, k0, ⟨f0, f1, f2, f3, f4, f5, f6, f7, f8⟩, k1, k2, k3, k4, k5, k6, k7, k8, k9⟩ := hS
  obtain ⟨l1, l2, l3, l4, l5, l6, -, -, ⟨v1, v2, v3, v4⟩, hv, hh1, hh2⟩ := hL
  have hnb := hp.2.1
  have hnf := hp.1
  obtain ⟨e4, hf⟩ := hi.at' hp hb
  generalize hf' : sp_f (zcv (pnf P) (pnb P) I o) b = f at e4 hf
  rw [zcv4 hb] at e4
  have zb := zin_n (show b < 6 by omega)
  have cb := nI_c (show b < 2147483648 by omega)
  have zf := zin_n (show f < 8 by omega)
  have cf := nI_c (show f < 2147483648 by omega)
  unfold sp_tk
  rw [hf']
  unfold sp_tkf
  rw [zcv2 hf, zcv0 hf]
  by_cases c1 : I (o + 3) f ≤ 0
  · rw [if_pos c1]
    cases hph : phv P with
    | none =>
      have hhu := hh1 hph
      refine ⟨I, ?_, fun x _ => rfl⟩
      simp only [F_X6_takes, ↓zka_eq k0, ↓zka_eq k1, ↓zka_eq k3, ↓zka_eq k4, ↓zka_eq k5, ↓zka_eq l3, ↓f0, ↓f2, ↓f3, ↓f4, ↓zb1_e, ↓zlet_e, decide_eq_true h6, decide_eq_true l1, zg_true, ↓zb, cb, e4, ↓zf, cf, if_pos c1, hhu, not_true_eq_false, if_false]
      refine congrArg some (Prod.ext (i_ext ?_) rfl)
      have r0 := (hi.2 f hf).1
      have r3 := (hi.1 b hb).2.1
      rw [zcv0 hf] at r0
      rw [zcv3 hb] at r3
      unfold rg at r0 r3
      unfold sp_want
      rw [hph, i_max, i_min]
      dsimp only
      rw [zcv3 hb, i_min]
      have : ((3 : Int32) * I (o + 4) b).toInt = 3 * (I (o + 4) b).toInt := i_mul (by show -2147483648 ≤ 3 * _; omega) (by show 3 * _ < _; omega)
      have z0 : (0 : Int32).toInt = 0 := rfl
      omega
    | some h =>
      obtain ⟨e, he, hev⟩ := hh2 h hph
      have rd : ∀ (x : Nat), x ≠ a + 11 → ∀ (J : zId) (i : Nat) (v : Int32), zu J (a + 11) i v x = J x := fun x hx J i v => zu_row hx
      have ro : ∀ (j : Nat), j ≤ 9 → ∀ (J : zId) (i : Nat) (v : Int32), zu J (a + 11) i v (o + j) = J (o + j) := fun j hj => rd _ (by omega)
      have rz : ∀ (J : zId) (i : Nat) (v : Int32), zu J (a + 11) i v o = J o := rd _ (by omega)
      have ra : ∀ (J : zId) (i : Nat) (v : Int32), zu J (a + 11) i v a = J a := rd _ (by omega)
      have kv : ∀ i, i < 7 → (K (10 + i)).isSome = true := fun i hi => by rw [hv i hi]; rfl
      have s0 := fun J x => F_sees_ok hL0 (J := J) (i := 0) (by decide) x
      have s1 := fun J x => F_sees_ok hL0 (J := J) (i := 1) (by decide) x
      have s2 := fun J x => F_sees_ok hL0 (J := J) (i := 2) (by decide) x
      have s3 := fun J x => F_sees_ok hL0 (J := J) (i := 3) (by decide) x
      have s4 := fun J x => F_sees_ok hL0 (J := J) (i := 4) (by decide) x
      have s5 := fun J x => F_sees_ok hL0 (J := J) (i := 5) (by decide) x
      have s6 := fun J x => F_sees_ok hL0 (J := J) (i := 6) (by decide) x
      have q0 := kv 0 (by decide)
      have q1 := kv 1 (by decide)
      have q2 := kv 2 (by decide)
      have q3 := kv 3 (by decide)
      have q4 := kv 4 (by decide)
      have q5 := kv 5 (by decide)
      have q6 := kv 6 (by decide)
      simp only [Nat.reduceAdd] at s0 s1 s2 s3 s4 s5 s6 q0 q1 q2 q3 q4 q5 q6
      have hne : ¬ F a 9 = none := by rw [he]; exact fun q => by cases q
      let J6 : zId := zu (zu (zu (zu (zu (zu I (a + 11) 0 (I (o + 4) b)) (a + 11) 1 (I (o + 1) f)) (a + 11) 2 (I (o + 8) b)) (a + 11) 3 (I a 0 * I (o + 6) b)) (a + 11) 4 (I o 9)) (a + 11) 5 (I (o + 7) b)
      have hJ : ∀ x, x ≠ a + 11 → J6 x = I x := fun x hx => by
        show zu (zu (zu (zu (zu (zu I _ _ _) _ _ _) _ _ _) _ _ _) _ _ _) _ _ _ x = _
        rw [rd x hx, rd x hx, rd x hx, rd x hx, rd x hx, rd x hx]
      have hoth := F_others_ok hS0 (hL0.cg (I' := J6) fun x _ _ hx => hJ x hx) hp hb
      have ecv : zcv (pnf P) (pnb P) J6 o = zcv (pnf P) (pnb P) I o := zcv_row fun x _ _ => hJ x (by omega)
      rw [ecv] at hoth
      have hby := hev K F (zu J6 (a + 11) 6 (sp_oth (pnb P) (zcv (pnf P) (pnb P) I o) b)) (fun _ _ => ⟨rfl, rfl⟩) (fun x _ _ hx => by rw [rd x hx]; exact hJ x hx)
      refine ⟨zu J6 (a + 11) 6 (sp_oth (pnb P) (zcv (pnf P) (pnb P) I o) b), ?_, fun x hx => by rw [rd x hx]; exact hJ x hx⟩
      have hw : h (zu J6 (a + 11) 6 (sp_oth (pnb P) (zcv (pnf P) (pnb P) I o) b) (a + 11)) = sp_want P (zcv (pnf P) (pnb P) I o) b f := by
        unfold sp_want
        rw [hph]
        refine hp.2.2.2.2.2.2 h hph _ _ fun k hk => ?_
        match k, hk with
        | 0, _ => show _ = zcv _ _ I o 3 b; rw [zcv3 hb]; simp [J6, zu]
        | 1, _ => show _ = zcv _ _ I o 0 f; rw [zcv0 hf]; simp [J6, zu]
        | 2, _ => show _ = zcv _ _ I o 7 b; rw [zcv7 hb]; simp [J6, zu]
        | 3, _ => show _ = ptax P * zcv _ _ I o 5 b; rw [zcv5 hb, ← l4]; simp [J6, zu]
        | 4, _ => show _ = I o 9; simp [J6, zu]
        | 5, _ => show _ = zcv _ _ I o 6 b; rw [zcv6 hb]; simp [J6, zu]
        | 6, _ => exact zu_same
        | k + 7, hk => omega
      rw [← hw]
      simp only [F_X6_takes, ↓zka_eq k0, ↓zka_eq k1, ↓zka_eq k3, ↓zka_eq k4, ↓zka_eq k5, ↓zka_eq k6, ↓zka_eq k7, ↓zka_eq k8, ↓zka_eq l3, ↓zka_eq v2, ↓f0, ↓f2, ↓f3, ↓f4, ↓f5, ↓f6, ↓f7, ↓v1, ↓zb1_e, ↓zlet_e, decide_eq_true h6, decide_eq_true l1, zg_true, ↓zb, cb, e4, ↓zf, cf, if_pos c1, if_pos hne, ↓q0, ↓q1, ↓q2, ↓q3, ↓q4, ↓q5, ↓q6, s0, s1, s2, s3, s4, s5, s6, ro 8 (by decide), ro 6 (by decide), ro 7 (by decide), rz, ra, he, reduceCtorEq, not_false_eq_true, if_true]
      rw [show (zu (zu (zu (zu (zu (zu I (a + 11) 0 (I (o + 4) b)) (a + 11) 1 (I (o + 1) f)) (a + 11) 2 (I (o + 8) b)) (a + 11) 3 (I a 0 * I (o + 6) b)) (a + 11) 4 (I o 9)) (a + 11) 5 (I (o + 7) b)) = J6 from rfl, hoth]
      simp only [zb1_e, s6, hby]
  · rw [if_neg c1]
    refine ⟨I, ?_, fun x _ => rfl⟩
    simp only [F_X6_takes, ↓zka_eq k0, ↓zka_eq k1, ↓zka_eq k3, ↓zka_eq k5, ↓f0, ↓f2, ↓f4, ↓zb1_e, ↓zlet_e, decide_eq_true h6, zg_true, ↓zb, cb, e4, ↓zf, cf, if_neg c1]
end L04
