/-! L34: rounds: the component -/
def zev (nf : Nat) (D : Nat → Nat → Int32) (h s p t f : Nat) : Int32 := if t.testBit f = true then (if zls t f = 0 then D h f else if zls t f < s then zv nf D h t f else if zls t f = s then zmf3 (fun q => s.testBit q) (fun q => zv nf D h s q + D q f) p 100000 else 100000) else 100000
section L34
variable {nf : Nat} {D : Nat → Nat → Int32} {h s p t f c : Nat}
theorem zev_same (hne : ¬ (t.testBit f = true ∧ zls t f = s)) (p' : Nat) : zev nf D h s p' t f = zev nf D h s p t f := by
  unfold zev
  by_cases c1 : t.testBit f = true
  · rw [if_pos c1, if_pos c1]
    have c2 : ¬ zls t f = s := fun e => hne ⟨c1, e⟩
    rw [if_neg c2, if_neg c2]
  · rw [if_neg c1, if_neg c1]
theorem zev_next (hn : nf ≤ 8) (ht : t < 256) (hf : f < 8) : zev nf D h s nf t f = zev nf D h (s + 1) 0 t f := by
  unfold zev
  by_cases c1 : t.testBit f = true
  · rw [if_pos c1, if_pos c1]
    by_cases c2 : zls t f = 0
    · rw [if_pos c2, if_pos c2]
    · rw [if_neg c2, if_neg c2]
      by_cases c3 : zls t f < s
      · rw [if_pos c3, if_pos (by omega)]
      · rw [if_neg c3]
        by_cases c4 : zls t f = s
        · rw [if_pos c4, if_pos (by omega), zv_e hn ht hf, if_pos c1, if_neg c2, c4]
        · rw [if_neg c4, if_neg (by omega)]
          by_cases c5 : zls t f = s + 1
          · rw [if_pos c5]; rfl
          · rw [if_neg c5]
  · rw [if_neg c1, if_neg c1]
theorem zev_out (hne : ¬ (t.testBit f = true ∧ zls t f = s)) : zev nf D h s 0 t f = zev nf D h (s + 1) 0 t f := by
  unfold zev
  by_cases c1 : t.testBit f = true
  · rw [if_pos c1, if_pos c1]
    by_cases c2 : zls t f = 0
    · rw [if_pos c2, if_pos c2]
    · rw [if_neg c2, if_neg c2]
      have c4 : ¬ zls t f = s := fun e => hne ⟨c1, e⟩
      by_cases c3 : zls t f < s
      · rw [if_pos c3, if_pos (by omega)]
      · rw [if_neg c3, if_neg c4, if_neg (by omega)]
        by_cases c5 : zls t f = s + 1
        · rw [if_pos c5]; rfl
        · rw [if_neg c5]
  · rw [if_neg c1, if_neg c1]
theorem zev_self (hn : nf ≤ 8) (hs : s < 256) (hf : f < 8) (s' : Nat) (h' : s ≤ s') : zev nf D h s' p s f = zv nf D h s f := by
  unfold zev
  rw [zv_e hn hs hf]
  by_cases c1 : s.testBit f = true
  · rw [if_pos c1, if_pos c1]
    by_cases c2 : zls s f = 0
    · rw [if_pos c2, if_pos c2]
    · have := zls_lt hs hf c1
      rw [if_neg c2, if_neg c2, if_pos (by omega)]
  · rw [if_neg c1, if_neg c1]
theorem zmf3_le {p : Nat → Bool} {v : Nat → Int32} : ∀ n, (zmf3 p v n 100000).toInt ≤ 100000
  | 0 => Int.le_refl _
  | n + 1 => by
    have := zmf3_le (p := p) (v := v) n
    rw [zmf3]
    split
    · rw [i_min]; omega
    · exact this
theorem zmin_le {x y : Int32} (h : x.toInt ≤ y.toInt) : zmin x y = x := i_ext (by rw [i_min]; omega)
end L34
section L34b
variable {K : zKd} {F : zFd} {I : zId} {a N : Nat} {P : zP} {X : zXd}
theorem F_camps_ok (h : zCQ K F I a N P X) (hp : pInv P) (hi : sInv P (zcv (pnf P) (pnb P) I 1014)) : F_X1_camps K F 1000 I = some (nI (zcmp (zcv (pnf P) (pnb P) I 1014) (pnb P))) := by
  obtain ⟨h1, h2⟩ := F_tl_ok h
  have e0 : zcv (pnf P) (pnb P) (zlk I 1847 1014) 1847 = zcv (pnf P) (pnb P) I 1014 := zlk_cv hp.1 hp.2.1 (by decide)
  have h0 := h
  have hnf := hp.1
  have hnb := hp.2.1
  obtain ⟨k0, ⟨f0, f1, f2, f3, f4, f6, f9, f10⟩, ⟨kt, kw, ks⟩, ⟨hN, hT⟩, hL, hQ, hd⟩ := h
  obtain ⟨n6, nk, ⟨-, -, -, -, nf4, -⟩, -, -, -, -, nk5, -⟩ := hN
  have s := zloop_up (body := fun s : Int32 × Int32 => F_X1_camps_L4 K F 1000 I s.1 s.2) (fun i s => s = (nI (zcmp (zcv (pnf P) (pnb P) I 1014) i), nI i)) (fun t => t = nI (zcmp (zcv (pnf P) (pnb P) I 1014) (pnb P))) (pnb P) ?_ ?_ 0 (0, 0) (Nat.zero_le _) rfl
  · obtain ⟨t, t1, rfl⟩ := s
    simp only [F_X1_camps, t1, zb1_e]
  · rintro i _ hib rfl
    obtain ⟨ea, haf⟩ := hi.at' hp hib
    have ea' : I 1019 i = nI (sp_f (zcv (pnf P) (pnb P) I 1014) i) := by rw [← ea]; exact (zcv4 hib).symm
    refine Or.inl ⟨(nI (zcmp (zcv (pnf P) (pnb P) I 1014) (i + 1)), nI (i + 1)), ?_, rfl⟩
    dsimp only
    simp only [F_X1_camps_L4, ↓zka_eq k0, F_bands_ok h0, ↓reduceIte, zg_true, zb1_e, zb2_e, zb3_e, zsum, zlet_e, nI_1, nI_ge hib (show pnb P < 2 ^ 31 by omega), d1000, d1014, f3, ↓zka_eq nk, nf4, ↓zka_eq nk5, zin_n (show i < 6 by omega), nI_c (show i < 2147483648 by omega), ea', nI_sh1 _ (show sp_f (zcv (pnf P) (pnb P) I 1014) i < 8 by omega), nI_lor, zcmp]
  · rintro _ rfl
    dsimp only
    simp only [F_X1_camps_L4, ↓zka_eq k0, F_bands_ok h0, zb1_e, ↓reduceIte, nI_le (Nat.le_refl (pnb P)) (show pnb P < 2 ^ 31 by omega)]
    exact ⟨_, rfl, rfl⟩
/-- the table at (s, p) -/
def zIw (nf : Nat) (D : Nat → Nat → Int32) (h c s p : Nat) (T : Nat → Int32) : Prop := ∀ t f, t < 256 → f < nf → zsb t c = true → T (8 * t + f) = zev nf D h s p t f
set_option maxHeartbeats 1000000 in
theorem F_walks_ok (hC : zCQ K F I a N P X) (hp : pInv P) (hD : isD (pnf P) (xrv X) (xds X)) {h c s p : Nat} (hh : h < pnf P) (hc : c < 256) (hs : s < 256) (hs1 : 0 < s) (hsc : zsb s c = true) (hpf : p < pnf P) (hI : zIw (pnf P) (xds X) h c s p (I 1858)) : ∃ J, F_X1_walks K F 1000 (nI s) (nI p) (nI c) I = some J ∧ zIw (pnf P) (xds X) h c s (p + 1) (J 1858) ∧ ∀ x, x ≠ 1858 → J x = I x := by
  have hnf := hp.1
  have hC0 := hC
  obtain ⟨k0, ⟨f0, -, -, -, -, -, f9, -⟩, ⟨-, kw, -⟩, -, hL, -, hd⟩ := hC
  have l3 := hL.2.2.1
  have ev : I 1858 (8 * s + p) = zv (pnf P) (xds X) h s p := by rw [hI s p hs hpf hsc, zev_self hnf hs (by omega) s (Nat.le_refl _)]
  have hvr := zv_rg hnf hD.2.1 hh s hs p hpf
  have e8 : (8 : Int32) * nI s + nI p = nI (8 * s + p) := by rw [show (8 : Int32) * nI s = nI (8 * s) from nI_mul (a := 8) (by omega) (by decide) (by omega), nI_add]
  -- a step of the fold at a place that has s behind it
  have hstep : ∀ t f, t.testBit f = true → zls t f = s → zev (pnf P) (xds X) h s (p + 1) t f = if s.testBit p = true then zmin (zev (pnf P) (xds X) h s p t f) (zv (pnf P) (xds X) h s p + xds X p f) else zev (pnf P) (xds X) h s p t f := by
    intro t f b1 b2
    unfold zev
    have n0 : ¬ zls t f = 0 := by omega
    have n1 : ¬ zls t f < s := by omega
    rw [if_pos b1, if_pos b1, if_neg n0, if_neg n0, if_neg n1, if_neg n1, if_pos b2, if_pos b2, zmf3]
  by_cases cv : zv (pnf P) (xds X) h s p < 100000
  · have cvn : ¬ (100000 : Int32) ≤ zv (pnf P) (xds X) h s p := by rw [iLe]; have := iL.mp cv; omega
    have hbp : s.testBit p = true := by
      cases hb : s.testBit p with
      | true => rfl
      | false =>
        rw [zv_e hnf hs (by omega), hb, if_neg (by decide)] at cv
        exact absurd cv (by decide)
    have s1 := zloop_up (body := fun z : Int32 × zId => F_X1_walks_L16 K F 1000 (nI s) (nI p) (nI c) (zv (pnf P) (xds X) h s p) z.1 z.2) (fun i J => J.1 = nI i ∧ (∀ x, x ≠ 1858 → J.2 x = I x) ∧ ∀ t f, t < 256 → f < pnf P → zsb t c = true → J.2 1858 (8 * t + f) = if f < i then zev (pnf P) (xds X) h s (p + 1) t f else zev (pnf P) (xds X) h s p t f) (fun J => (∀ x, x ≠ 1858 → J x = I x) ∧ zIw (pnf P) (xds X) h c s (p + 1) (J 1858)) (pnf P) ?_ ?_ 0 (0, I) (Nat.zero_le _) ⟨rfl, fun _ _ => rfl, fun t f h1 h2 h3 => by rw [if_neg (Nat.not_lt_zero f)]; exact hI t f h1 h2 h3⟩
    · obtain ⟨J, t1, t2, t3⟩ := s1
      refine ⟨J, ?_, t3, t2⟩
      simp only [F_X1_walks, ↓zka_eq k0, d1000, f9, ↓reduceIte, zg_true, zb1_e, zb2_e, zb3_e, zsum, zlet_e, nI_1, ↓zka_eq kw, e8, zin_n (show 8 * s + p < 2048 by omega), nI_c (show 8 * s + p < 2147483648 by omega), ev, t1]
    · rintro i ⟨_, J⟩ hi ⟨rfl, e1, e2⟩
      dsimp only at e1 e2
      have hJ : zCQ K F J a N P X := hC0.cf (fun x k hx => by rw [e1 x (by intro e; subst e; simp [zcsc] at hx)])
      -- the places at i that don't change
      have keep : (∀ t, t < 256 → zsb t c = true → ¬ (t.testBit i = true ∧ zls t i = s)) → ∀ t f, t < 256 → f < pnf P → zsb t c = true → J 1858 (8 * t + f) = if f < i + 1 then zev (pnf P) (xds X) h s (p + 1) t f else zev (pnf P) (xds X) h s p t f := by
        intro hk t f h1 h2 h3
        rw [e2 t f h1 h2 h3]
        by_cases g : f < i
        · rw [if_pos g, if_pos (by omega)]
        · rw [if_neg g]
          by_cases g2 : f = i
          · rw [if_pos (by omega), g2]
            exact (zev_same (hk t h1 h3) _).symm
          · rw [if_neg (by omega)]
      have bC := nI_bit i (by omega) c hc
      have bS := nI_bit i (by omega) s hs
      cases hbc : c.testBit i with
      | false =>
        rw [hbc, if_neg (by decide)] at bC
        refine Or.inl ⟨(nI (i + 1), J), ?_, rfl, e1, keep fun t h1 h3 q => by have := zsb_i.mp h3 i q.1; rw [hbc] at this; cases this⟩
        dsimp only
        simp only [F_X1_walks_L16, ↓zka_eq k0, F_forests_ok hJ, ↓reduceIte, zg_true, zb1_e, zb2_e, zb3_e, zsum, zlet_e, nI_1, nI_ge hi (show pnf P < 2 ^ 31 by omega), cvn, bC]
      | true =>
        rw [hbc, if_pos rfl] at bC
        have h10 : ¬ (1 : Int32) = 0 := by decide
        cases hbs : s.testBit i with
        | true =>
          rw [hbs, if_pos rfl] at bS
          refine Or.inl ⟨(nI (i + 1), J), ?_, rfl, e1, keep fun t h1 h3 q => by have := zls_bit (s := t) (f := i) (j := i) h1 (by omega); rw [q.2, hbs] at this; simp at this⟩
          dsimp only
          simp only [F_X1_walks_L16, ↓zka_eq k0, F_forests_ok hJ, ↓reduceIte, zg_true, zb1_e, zb2_e, zb3_e, zsum, zlet_e, nI_1, nI_ge hi (show pnf P < 2 ^ 31 by omega), cvn, bC, bS, h10, not_true_eq_false]
        | false =>
          rw [hbs, if_neg (by decide)] at bS
          have ht0 := zor_lt hs (show i < 8 by omega)
          have hz0 := zls_or hs (show i < 8 by omega) hbs
          have hb0 := zor_bit (s := s) (f := i)
          have hs0 := zsb_or hsc hbc
          have ek : (8 : Int32) * (nI s ||| (1 : Int32) <<< (nI i &&& (31 : Int32))) + nI i = nI (8 * (s ||| 2 ^ i) + i) := by rw [nI_sh1 i (by omega), nI_lor, show (8 : Int32) * nI (s ||| 2 ^ i) = nI (8 * (s ||| 2 ^ i)) from nI_mul (a := 8) (by omega) (by decide) (by omega), nI_add]
          have eo : J 1858 (8 * (s ||| 2 ^ i) + i) = zev (pnf P) (xds X) h s p (s ||| 2 ^ i) i := by rw [e2 _ i ht0 hi hs0, if_neg (Nat.lt_irrefl i)]
          have en : zmin (zev (pnf P) (xds X) h s p (s ||| 2 ^ i) i) (zv (pnf P) (xds X) h s p + xds X p i) = zev (pnf P) (xds X) h s (p + 1) (s ||| 2 ^ i) i := by rw [hstep _ i hb0 hz0, if_pos hbp]
          refine Or.inl ⟨(nI (i + 1), zu J 1858 (8 * (s ||| 2 ^ i) + i) (zev (pnf P) (xds X) h s (p + 1) (s ||| 2 ^ i) i)), ?_, rfl, fun x hx => by dsimp only; rw [zu_row hx]; exact e1 x hx, fun t f h1 h2 h3 => ?_⟩
          · dsimp only
            simp only [F_X1_walks_L16, ↓zka_eq k0, F_forests_ok hJ, ↓reduceIte, zg_true, zb1_e, zb2_e, zb3_e, zsum, zlet_e, nI_1, nI_ge hi (show pnf P < 2 ^ 31 by omega), cvn, bC, bS, h10, show ¬ (0 : Int32) = 1 by decide, not_false_eq_true, ek, d1000, f0, f9, ↓zka_eq kw, ↓zka_eq l3, F_cfar_ok hJ hp hpf hi, zin_n (show 8 * (s ||| 2 ^ i) + i < 2048 by omega), nI_c (show 8 * (s ||| 2 ^ i) + i < 2147483648 by omega), eo, en, decide_eq_true (show 600 ≤ 1858 by decide)]
          · dsimp only
            by_cases g : t = s ||| 2 ^ i ∧ f = i
            · obtain ⟨rfl, rfl⟩ := g
              rw [zu_same, if_pos (Nat.lt_succ_self _)]
            · rw [zu_off (by omega), e2 t f h1 h2 h3]
              by_cases g1 : f < i
              · rw [if_pos g1, if_pos (by omega)]
              · rw [if_neg g1]
                by_cases g2 : f = i
                · subst g2
                  rw [if_pos (by omega)]
                  refine (zev_same (fun q => g ⟨?_, rfl⟩) _).symm
                  rw [← zls_inv h1 (by omega) q.1, q.2]
                · rw [if_neg (by omega)]
    · rintro ⟨_, J⟩ ⟨rfl, e1, e2⟩
      dsimp only at e1 e2
      have hJ : zCQ K F J a N P X := hC0.cf (fun x k hx => by rw [e1 x (by intro e; subst e; simp [zcsc] at hx)])
      refine ⟨J, ?_, e1, fun t f h1 h2 h3 => by have := e2 t f h1 h2 h3; rw [if_pos h2] at this; exact this⟩
      dsimp only
      simp only [F_X1_walks_L16, ↓zka_eq k0, F_forests_ok hJ, zb1_e, ↓reduceIte, nI_le (Nat.le_refl (pnf P)) (show pnf P < 2 ^ 31 by omega)]
  · have cv' : (100000 : Int32) ≤ zv (pnf P) (xds X) h s p := by rw [iLe]; have := mt iL.mpr cv; omega
    refine ⟨I, ?_, fun t f h1 h2 h3 => ?_, fun _ _ => rfl⟩
    · have hend : zloop (fun s_1 : Int32 × zId => F_X1_walks_L16 K F 1000 (nI s) (nI p) (nI c) (zv (pnf P) (xds X) h s p) s_1.1 s_1.2) (0, I) = some I := by
        refine zloop_end ?_
        dsimp only
        have h0n : ¬ nI (pnf P) ≤ 0 := nI_nle (by omega) (by omega)
        simp only [F_X1_walks_L16, ↓zka_eq k0, F_forests_ok hC0, ↓reduceIte, zg_true, zb1_e, zb2_e, zb3_e, zsum, zlet_e, nI_1, h0n, cv']
      simp only [F_X1_walks, ↓zka_eq k0, d1000, f9, ↓reduceIte, zg_true, zb1_e, zb2_e, zb3_e, zsum, zlet_e, nI_1, ↓zka_eq kw, e8, zin_n (show 8 * s + p < 2048 by omega), nI_c (show 8 * s + p < 2147483648 by omega), ev, hend]
    · rw [hI t f h1 h2 h3]
      by_cases q : t.testBit f = true ∧ zls t f = s
      · rw [hstep t f q.1 q.2]
        split
        · have hle : (zev (pnf P) (xds X) h s p t f).toInt ≤ 100000 := by
            unfold zev
            rw [if_pos q.1, if_neg (show ¬ zls t f = 0 by omega), if_neg (show ¬ zls t f < s by omega), if_pos q.2]
            exact zmf3_le p
          have hd1 := hD.2.1 p f hpf h2
          have := iLe.mp cv'
          unfold rg at hvr hd1
          rw [zmin_le]
          rw [i_add (by omega) (by omega)]
          have e5 : (100000 : Int32).toInt = 100000 := rfl
          omega
        · rfl
      · exact (zev_same q _).symm
theorem zrow_cf {J : zId} (e : ∀ x, x ≠ 1858 → J x = I x) : zcf a I J := fun x k hx => by rw [e x (by intro q; subst q; simp [zcsc] at hx)]
set_option maxHeartbeats 1000000 in
theorem F_round_ok (hC : zCQ K F I a N P X) (hp : pInv P) (hi : sInv P (zcv (pnf P) (pnb P) I 1014)) (hX : xInv P X) (hD : isD (pnf P) (xrv X) (xds X)) (x : Int32) : ∃ J, F_X1_round K F 1000 x I = some (qC (q_round P X (zcv (pnf P) (pnb P) I 1014) x), J) ∧ zcf a I J := by
  have hnf := hp.1
  have hnt := hX.1
  have hC0 := hC
  have hcm := F_camps_ok hC hp hi
  obtain ⟨k0, ⟨f0, -, -, -, -, -, f9, -⟩, ⟨-, kw, -⟩, -, hL, -, hd⟩ := hC
  have l3 := hL.2.2.1
  unfold q_round
  rcases zir_cases x (n := xnt X) (by omega) with ⟨k, hk, rfl⟩ | hx
  · rw [q_fa_ok hk (by omega)]
    have hfo := F_fortAt_ok hC0 hX hp hk
    have hh := hX.2 k hk
    obtain ⟨hc, hcb⟩ := zcmp_ok hp hi (pnb P) (Nat.le_refl _)
    generalize zcmp (zcv (pnf P) (pnb P) I 1014) (pnb P) = c at *
    generalize xft X k = h at *
    -- the table is empty
    have s1 := zloop_up (body := fun z : Int32 × zId => F_X1_round_L14 K F 1000 z.1 z.2) (fun i z => z.1 = nI i ∧ (∀ x, x ≠ 1858 → z.2 x = I x) ∧ ∀ j, j < i → z.2 1858 j = 100000) (fun J => (∀ x, x ≠ 1858 → J x = I x) ∧ ∀ j, j < 2048 → J 1858 j = 100000) 2048 ?_ ?_ 0 (0, I) (Nat.zero_le _) ⟨rfl, fun _ _ => rfl, fun j hj => absurd hj (Nat.not_lt_zero j)⟩
    · obtain ⟨J1, t1, t2, t3⟩ := s1
      have s2 := zloop_up (body := fun z : Int32 × zId => F_X1_round_L43 K F 1000 (nI h) (nI c) z.1 z.2) (fun i z => z.1 = nI i ∧ (∀ x, x ≠ 1858 → z.2 x = I x) ∧ ∀ t f, t < 256 → f < pnf P → zsb t c = true → z.2 1858 (8 * t + f) = if t.testBit f = true ∧ zls t f = 0 ∧ f < i then xds X h f else 100000) (fun J => (∀ x, x ≠ 1858 → J x = I x) ∧ zIw (pnf P) (xds X) h c 1 0 (J 1858)) (pnf P) ?_ ?_ 0 (0, J1) (Nat.zero_le _) ⟨rfl, t2, fun t f h1 h2 h3 => by rw [if_neg (fun q => absurd q.2.2 (Nat.not_lt_zero f))]; exact t3 _ (by omega)⟩
      · obtain ⟨J2, u1, u2, u3⟩ := s2
        have s3 := zloop_up (body := fun z : Int32 × zId => F_X1_round_L96 K F 1000 (nI c) z.1 z.2) (fun i z => z.1 = nI (i + 1) ∧ (∀ x, x ≠ 1858 → z.2 x = I x) ∧ zIw (pnf P) (xds X) h c (i + 1) 0 (z.2 1858)) (fun J => (∀ x, x ≠ 1858 → J x = I x) ∧ zIw (pnf P) (xds X) h c (c + 1) 0 (J 1858)) c ?_ ?_ 0 (1, J2) (Nat.zero_le _) ⟨rfl, u2, u3⟩
        · obtain ⟨J, v1, v2, v3⟩ := s3
          have hJ : zCQ K F J a N P X := hC0.cf (zrow_cf v2)
          have hval : ∀ f, f < pnf P → J 1858 (8 * c + f) = zv (pnf P) (xds X) h c f := fun f hf => by
            rw [v3 c f hc hf (zsb_i.mpr fun j hj => hj), zev_self hnf hc (by omega) (c + 1) (by omega)]
          refine ⟨J, ?_, zrow_cf v2⟩
          have hw : ∀ w0 : Int32, (w0 = if c = 0 then 0 else 100000) → zloop (fun z : Int32 × Int32 => F_X1_round_L160 K F 1000 (nI h) (nI c) J z.1 z.2) (w0, 0) = some (zrd (pnf P) (xds X) h c) := by
            intro w0 e0
            have hvr := zv_rg hnf hD.2.1 hh c hc
            have s4 := zloop_up (body := fun z : Int32 × Int32 => F_X1_round_L160 K F 1000 (nI h) (nI c) J z.1 z.2) (fun i z => z = (if c = 0 then 0 else zmf3 (fun _ => true) (fun f => zv (pnf P) (xds X) h c f + xds X f h) i 100000, nI i)) (fun t => t = zrd (pnf P) (xds X) h c) (pnf P) ?_ ?_ 0 (w0, 0) (Nat.zero_le _) (by rw [e0]; rfl)
            · obtain ⟨t, a1, rfl⟩ := s4
              exact a1
            · rintro i _ hif rfl
              dsimp only
              have e8 : (8 : Int32) * nI c + nI i = nI (8 * c + i) := by rw [show (8 : Int32) * nI c = nI (8 * c) from nI_mul (a := 8) (by omega) (by decide) (by omega), nI_add]
              refine Or.inl ⟨(if c = 0 then 0 else zmf3 (fun _ => true) (fun f => zv (pnf P) (xds X) h c f + xds X f h) (i + 1) 100000, nI (i + 1)), ?_, rfl⟩
              have hmin : zmin (if c = 0 then 0 else zmf3 (fun _ => true) (fun f => zv (pnf P) (xds X) h c f + xds X f h) i 100000) (zv (pnf P) (xds X) h c i + xds X i h) = if c = 0 then 0 else zmf3 (fun _ => true) (fun f => zv (pnf P) (xds X) h c f + xds X f h) (i + 1) 100000 := by
                by_cases c0 : c = 0
                · rw [if_pos c0, if_pos c0]
                  have r1 := hvr i hif
                  have r2 := hD.2.1 i h hif hh
                  unfold rg at r1 r2
                  refine zmin_le ?_
                  rw [i_add (by omega) (by omega), i_0]
                  omega
                · rw [if_neg c0, if_neg c0, zmf3, if_pos rfl]
              simp only [F_X1_round_L160, ↓zka_eq k0, F_forests_ok hJ, ↓reduceIte, zg_true, zb1_e, zlet_e, nI_ge hif (show pnf P < 2 ^ 31 by omega), d1000, f0, f9, ↓zka_eq kw, ↓zka_eq l3, e8, zin_n (show 8 * c + i < 2048 by omega), nI_c (show 8 * c + i < 2147483648 by omega), F_cfar_ok hJ hp hif hh, hval i hif, hmin, nI_1]
            · rintro _ rfl
              dsimp only
              simp only [F_X1_round_L160, ↓zka_eq k0, F_forests_ok hJ, zb1_e, ↓reduceIte, nI_le (Nat.le_refl (pnf P)) (show pnf P < 2 ^ 31 by omega)]
              exact ⟨_, rfl, rfl⟩
          have hc0 : (nI c = 0) ↔ c = 0 := nI_eq (b := 0) (by omega) (by omega)
          have hw0 := hw (if c = 0 then 0 else 100000) rfl
          simp only [F_X1_round, ↓zka_eq k0, hfo, ↓reduceIte, zb1_e, zb2_e, zsum, hcm, t1, u1, v1, ↓zlet_if, hc0, hw0, F_orn_ok, qC]
        · rintro i ⟨_, J⟩ hi' ⟨rfl, e1, e2⟩
          dsimp only at e1 e2
          have hng : ¬ nI c < nI (i + 1) := nI_nlt (by omega) (by omega)
          have hs : i + 1 < 256 := by omega
          have hz0 := zsb_0 (s := i + 1) (c := c) hs
          by_cases hsb : zsb (i + 1) c = true
          · have s5 := zloop_up (body := fun z : Int32 × zId => F_X1_round_L105 K F 1000 (nI c) (nI (i + 1)) z.1 z.2) (fun p z => z.1 = nI p ∧ (∀ x, x ≠ 1858 → z.2 x = I x) ∧ zIw (pnf P) (xds X) h c (i + 1) p (z.2 1858)) (fun J => (∀ x, x ≠ 1858 → J x = I x) ∧ zIw (pnf P) (xds X) h c (i + 1) (pnf P) (J 1858)) (pnf P) ?_ ?_ 0 (0, J) (Nat.zero_le _) ⟨rfl, e1, e2⟩
            · obtain ⟨J', v1, v2, v3⟩ := s5
              refine Or.inl ⟨(nI (i + 1 + 1), J'), ?_, rfl, v2, fun t f h1 h2 h3 => ?_⟩
              · dsimp only
                simp only [F_X1_round_L96, hng, ↓reduceIte, zg_true, zb1_e, zb2_e, zb3_e, zsum, zlet_e, nI_1, v1]
              · dsimp only
                rw [v3 t f h1 h2 h3, zev_next hnf h1 (by omega)]
            · rintro p ⟨_, J'⟩ hpf ⟨rfl, w1, w2⟩
              dsimp only at w1 w2
              have hJ : zCQ K F J' a N P X := hC0.cf (zrow_cf w1)
              obtain ⟨J2, q1, q2, q3⟩ := F_walks_ok hJ hp hD hh hc hs (by omega) hsb hpf w2
              refine Or.inl ⟨(nI (p + 1), J2), ?_, rfl, fun x hx => (q3 x hx).trans (w1 x hx), q2⟩
              dsimp only
              simp only [F_X1_round_L105, ↓zka_eq k0, F_forests_ok hJ, ↓reduceIte, zg_true, zb1_e, zb2_e, zb3_e, zsum, zlet_e, nI_1, nI_ge hpf (show pnf P < 2 ^ 31 by omega), hz0.mpr hsb, not_true_eq_false, q1]
            · rintro ⟨_, J'⟩ ⟨rfl, w1, w2⟩
              dsimp only at w1 w2
              have hJ : zCQ K F J' a N P X := hC0.cf (zrow_cf w1)
              refine ⟨J', ?_, w1, w2⟩
              dsimp only
              simp only [F_X1_round_L105, ↓zka_eq k0, F_forests_ok hJ, zb1_e, ↓reduceIte, nI_le (Nat.le_refl (pnf P)) (show pnf P < 2 ^ 31 by omega)]
          · have hJ : zCQ K F J a N P X := hC0.cf (zrow_cf e1)
            have hend : zloop (fun s : Int32 × zId => F_X1_round_L105 K F 1000 (nI c) (nI (i + 1)) s.1 s.2) (0, J) = some J := by
              refine zloop_end ?_
              dsimp only
              have hnz : ¬ nI (i + 1) &&& (nI c ^^^ (-1)) = 0 := fun q => hsb (hz0.mp q)
              have h0n : ¬ nI (pnf P) ≤ 0 := nI_nle (by omega) (by omega)
              simp only [F_X1_round_L105, ↓zka_eq k0, F_forests_ok hJ, ↓reduceIte, zg_true, zb1_e, zb2_e, zb3_e, zsum, zlet_e, nI_1, h0n, hnz, not_false_eq_true]
            refine Or.inl ⟨(nI (i + 1 + 1), J), ?_, rfl, e1, fun t f h1 h2 h3 => ?_⟩
            · dsimp only
              simp only [F_X1_round_L96, hng, ↓reduceIte, zg_true, zb1_e, zb2_e, zb3_e, zsum, zlet_e, nI_1, hend]
            · dsimp only
              rw [e2 t f h1 h2 h3]
              refine zev_out fun q => hsb ?_
              have := zsb_ls h1 (show f < 8 by omega) h3
              rwa [q.2] at this
        · rintro ⟨_, J⟩ ⟨rfl, e1, e2⟩
          refine ⟨J, ?_, e1, e2⟩
          dsimp only
          simp only [F_X1_round_L96, ↓reduceIte, nI_lt (show c < c + 1 by omega) (show c + 1 < 2 ^ 31 by omega)]
      · rintro i ⟨_, J⟩ hif ⟨rfl, e1, e2⟩
        dsimp only at e1 e2
        have hJ : zCQ K F J a N P X := hC0.cf (zrow_cf e1)
        have bC := nI_bit i (by omega) c hc
        cases hbc : c.testBit i with
        | false =>
          rw [hbc, if_neg (by decide)] at bC
          refine Or.inl ⟨(nI (i + 1), J), ?_, rfl, e1, fun t f h1 h2 h3 => ?_⟩
          · dsimp only
            simp only [F_X1_round_L43, ↓zka_eq k0, F_forests_ok hJ, ↓reduceIte, zg_true, zb1_e, zb2_e, zb3_e, zsum, zlet_e, nI_1, nI_ge hif (show pnf P < 2 ^ 31 by omega), bC, show ¬ (0 : Int32) = 1 by decide, not_false_eq_true]
          · dsimp only
            rw [e2 t f h1 h2 h3]
            by_cases g : t.testBit f = true ∧ zls t f = 0 ∧ f < i
            · rw [if_pos g, if_pos ⟨g.1, g.2.1, by omega⟩]
            · rw [if_neg g, if_neg]
              rintro ⟨q1, q2, q3⟩
              by_cases q4 : f = i
              · subst q4
                have := zsb_i.mp h3 f q1
                rw [hbc] at this; cases this
              · exact g ⟨q1, q2, by omega⟩
        | true =>
          rw [hbc, if_pos rfl] at bC
          have hp2 : 2 ^ i < 256 := Nat.pow_lt_pow_right (n := 8) (by decide) (by omega)
          have ek : (8 : Int32) * ((1 : Int32) <<< (nI i &&& (31 : Int32))) + nI i = nI (8 * 2 ^ i + i) := by rw [nI_sh1 i (by omega), show (8 : Int32) * nI (2 ^ i) = nI (8 * 2 ^ i) from nI_mul (a := 8) (by omega) (by decide) (by omega), nI_add]
          refine Or.inl ⟨(nI (i + 1), zu J 1858 (8 * 2 ^ i + i) (xds X h i)), ?_, rfl, fun x hx => by dsimp only; rw [zu_row hx]; exact e1 x hx, fun t f h1 h2 h3 => ?_⟩
          · dsimp only
            simp only [F_X1_round_L43, ↓zka_eq k0, F_forests_ok hJ, ↓reduceIte, zg_true, zb1_e, zb2_e, zb3_e, zsum, zlet_e, nI_1, nI_ge hif (show pnf P < 2 ^ 31 by omega), bC, not_true_eq_false, d1000, f0, f9, ↓zka_eq l3, F_cfar_ok hJ hp hh hif, ↓zka_eq kw, ek, zin_n (show 8 * 2 ^ i + i < 2048 by omega), nI_c (show 8 * 2 ^ i + i < 2147483648 by omega), decide_eq_true (show 600 ≤ 1858 by decide)]
          · dsimp only
            by_cases g : t = 2 ^ i ∧ f = i
            · obtain ⟨rfl, rfl⟩ := g
              have b1 : (2 ^ f).testBit f = true := by rw [Nat.testBit_two_pow]; simp
              have b2 : zls (2 ^ f) f = 0 := by
                have := zls_or (s := 0) (f := f) (by decide) (by omega) (Nat.zero_testBit f)
                rwa [Nat.zero_or] at this
              rw [zu_same, if_pos ⟨b1, b2, by omega⟩]
            · rw [zu_off (by omega), e2 t f h1 h2 h3]
              by_cases g1 : t.testBit f = true ∧ zls t f = 0 ∧ f < i
              · rw [if_pos g1, if_pos ⟨g1.1, g1.2.1, by omega⟩]
              · rw [if_neg g1, if_neg]
                rintro ⟨q1, q2, q3⟩
                by_cases q4 : f = i
                · have := zls_inv h1 (show f < 8 by omega) q1
                  rw [q2, Nat.zero_or] at this
                  exact g ⟨by rw [← this, q4], q4⟩
                · exact g1 ⟨q1, q2, by omega⟩
      · rintro ⟨_, J⟩ ⟨rfl, e1, e2⟩
        dsimp only at e1 e2
        have hJ : zCQ K F J a N P X := hC0.cf (zrow_cf e1)
        refine ⟨J, ?_, e1, fun t f h1 h2 h3 => ?_⟩
        · dsimp only
          simp only [F_X1_round_L43, ↓zka_eq k0, F_forests_ok hJ, zb1_e, ↓reduceIte, nI_le (Nat.le_refl (pnf P)) (show pnf P < 2 ^ 31 by omega)]
        · rw [e2 t f h1 h2 h3]
          unfold zev
          by_cases b1 : t.testBit f = true
          · rw [if_pos b1]
            by_cases b2 : zls t f = 0
            · rw [if_pos ⟨b1, b2, h2⟩, if_pos b2]
            · rw [if_neg (fun q => b2 q.2.1), if_neg b2, if_neg (by omega)]
              split <;> rfl
          · rw [if_neg (fun q => b1 q.1), if_neg b1]
    · rintro i ⟨_, J⟩ hi' ⟨rfl, e1, e2⟩
      dsimp only at e1 e2
      refine Or.inl ⟨(nI (i + 1), zu J 1858 i 100000), ?_, rfl, fun x hx => by dsimp only; rw [zu_row hx]; exact e1 x hx, fun j hj => ?_⟩
      · dsimp only
        simp only [F_X1_round_L14, ↓zka_eq k0, d1000, f9, ↓reduceIte, zg_true, zb1_e, zb2_e, zb3_e, zsum, zlet_e, nI_1, ↓zka_eq kw, nI_ge hi' (show 2048 < 2 ^ 31 by omega), zin_n (show i < 2048 by omega), nI_c (show i < 2147483648 by omega), decide_eq_true (show 600 ≤ 1858 by decide)]
      · dsimp only
        by_cases e : j = i
        · rw [e, zu_same]
        · rw [zu_off (by omega)]; exact e2 j (by omega)
    · rintro ⟨_, J⟩ ⟨rfl, e1, e2⟩
      refine ⟨J, ?_, e1, e2⟩
      dsimp only
      simp only [F_X1_round_L14, ↓zka_eq k0, d1000, f9, zg_true, zb1_e, ↓zka_eq kw, ↓reduceIte, nI_le (Nat.le_refl (2048)) (show 2048 < 2 ^ 31 by omega)]
  · rw [q_fa_no hx]
    refine ⟨I, ?_, zcf.rf⟩
    simp only [F_X1_round, ↓zka_eq k0, F_fortAt_no hC0 hx, ↓reduceIte, zb1_e, zb2_e, zsum, qC]
end L34b
