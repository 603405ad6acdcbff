/-! L35: rounds: the model -/
theorem nI_sh3 : ∀ l, l < 256 → nI l <<< ((3 : Int32) &&& (31 : Int32)) = nI (8 * l) := by decide +kernel
theorem zmin_F {x : Int32} (h : x.toInt ≤ 100000) : zmin 100000 x = x := i_ext (by rw [i_min]; have e : (100000 : Int32).toInt = 100000 := rfl; omega)
section L35
variable {I : zId} {P : zP} {X : zXd}
/-- cells that a round may write -/
def zmr (I J : zId) : Prop := ∀ x, (x < 1887 ∨ 1889 < x) → J x = I x
theorem zmr.rf : zmr I I := fun _ _ => rfl
theorem zmr.tr {J L : zId} (h1 : zmr I J) (h2 : zmr J L) : zmr I L := fun x h => (h2 x h).trans (h1 x h)
theorem zmr.mf {J : zId} (h : zmr I J) : zmf I J := fun x k hx => by
  simp only [zmsc, Bool.or_eq_false_iff, Bool.and_eq_false_iff, decide_eq_false_iff_not, beq_eq_false_iff_ne, ne_eq] at hx
  rw [h x (by omega)]
theorem zmr.mv {J : zId} (h : zmr I J) {nf nb : Nat} : zmv2 nf nb J = zmv2 nf nb I := zmv2_cg fun x k hk => by
  refine congrFun (h x ?_) k
  simp only [zmok, Bool.or_eq_true, Bool.and_eq_true, decide_eq_true_eq, beq_iff_eq] at hk
  omega
theorem F7_isOf_ok {s f : Nat} (hs : s < 256) (hf : f < 8) : F_X7_isOf (nI s) (nI f) I = some (if s.testBit f = true then 1 else 0) := by
  unfold F_X7_isOf
  rw [nI_bit f hf s hs]
  by_cases c : s.testBit f = true
  · rw [if_pos c, if_neg (fun h => h rfl)]
  · rw [if_neg c, if_pos (by decide)]
/-- the ways' table -/
def zfars (nf : Nat) (D : Nat → Nat → Int32) (T : Nat → Int32) : Prop := ∀ i j, i < nf → j < nf → T (8 * i + j) = D i j
theorem F7_fars_ok (hQ : zMQ I P X) (hp : pInv P) (hw : zwd (pnf P) (xrv X)) (hD : isD (pnf P) (xrv X) (xds X)) : ∃ J, zloop (fun s : Int32 × zId => F_X7_round_L52 s.1 s.2) (0, I) = some J ∧ zfars (pnf P) (xds X) (J 1889) ∧ zmr I J := by
  have hnf := hp.1
  have s1 := zloop_up (body := fun z : Int32 × zId => F_X7_round_L52 z.1 z.2) (fun a z => z.1 = nI a ∧ zmr I z.2 ∧ ∀ i j, i < a → j < pnf P → z.2 1889 (8 * i + j) = xds X i j) (fun J => zmr I J ∧ zfars (pnf P) (xds X) (J 1889)) (pnf P) ?_ ?_ 0 (0, I) (Nat.zero_le _) ⟨rfl, zmr.rf, fun i j h => absurd h (Nat.not_lt_zero i)⟩
  · obtain ⟨J, t1, t2, t3⟩ := s1
    exact ⟨J, t1, t3, t2⟩
  · rintro a ⟨_, J⟩ ha ⟨rfl, e1, e2⟩
    dsimp only at e1 e2
    obtain ⟨J1, u1, u2, u3⟩ := F7_tell_days_ok (hQ.mf e1.mf) hp hw hD ha
    have e1' : zmr I J1 := fun x hx => (u3 x (by omega)).trans (e1 x hx)
    have s2 := zloop_up (body := fun z : Int32 × zId => F_X7_round_L70 (nI a) z.1 z.2) (fun b z => z.1 = nI b ∧ zmr I z.2 ∧ z.2 1887 = J1 1887 ∧ ∀ i j, (i < a ∧ j < pnf P) ∨ (i = a ∧ j < b) → z.2 1889 (8 * i + j) = xds X i j) (fun J => zmr I J ∧ ∀ i j, (i < a ∧ j < pnf P) ∨ (i = a ∧ j < pnf P) → J 1889 (8 * i + j) = xds X i j) (pnf P) ?_ ?_ 0 (0, J1) (Nat.zero_le _) ⟨rfl, e1', rfl, fun i j h => h.elim (fun h => by dsimp only; rw [u3 1889 (by decide)]; exact e2 i j h.1 h.2) fun h => absurd h.2 (Nat.not_lt_zero j)⟩
    · obtain ⟨J2, v1, v2, v3⟩ := s2
      refine Or.inl ⟨(nI (a + 1), J2), ?_, rfl, v2, fun i j hi hj => v3 i j (by omega)⟩
      dsimp only
      simp only [F_X7_round_L52, (hQ.mf e1.mf).1.1, nI_ge ha (show pnf P < 2 ^ 31 by omega), ↓reduceIte, zg_true, zb1_e, zb2_e, zb3_e, zsum, zlet_e, nI_1, u1, v1]
    · rintro b ⟨_, J2⟩ hb ⟨rfl, d1, d2, d3⟩
      dsimp only at d1 d2 d3
      have e8 : (8 : Int32) * nI a + nI b = nI (8 * a + b) := by rw [show (8 : Int32) * nI a = nI (8 * a) from nI_mul (a := 8) (by omega) (by decide) (by omega), nI_add]
      refine Or.inl ⟨(nI (b + 1), zu J2 1889 (8 * a + b) (xds X a b)), ?_, rfl, fun x hx => by dsimp only; rw [zu_row (by omega)]; exact d1 x hx, by dsimp only; rw [zu_row (by decide)]; exact d2, fun i j h => ?_⟩
      · dsimp only
        simp only [F_X7_round_L70, (hQ.mf d1.mf).1.1, nI_ge hb (show pnf P < 2 ^ 31 by omega), ↓reduceIte, zg_true, zb1_e, zb2_e, zb3_e, zsum, zlet_e, nI_1, zin_n (show b < 8 by omega), nI_c (show b < 2147483648 by omega), e8, zin_n (show 8 * a + b < 64 by omega), nI_c (show 8 * a + b < 2147483648 by omega), d2, u2 b hb]
      · dsimp only
        by_cases g : i = a ∧ j = b
        · obtain ⟨rfl, rfl⟩ := g; exact zu_same
        · rw [zu_off (by omega)]; exact d3 i j (by omega)
    · rintro ⟨_, J2⟩ ⟨rfl, d1, d2, d3⟩
      have hm := (hQ.mf d1.mf).1.1
      refine ⟨J2, ?_, d1, d3⟩
      dsimp only at hm ⊢
      simp only [F_X7_round_L70, hm, ↓reduceIte, nI_le (Nat.le_refl (pnf P)) (show pnf P < 2 ^ 31 by omega)]
  · rintro ⟨_, J⟩ ⟨rfl, e1, e2⟩
    have hm := (hQ.mf e1.mf).1.1
    refine ⟨J, ?_, e1, e2⟩
    dsimp only at hm ⊢
    simp only [F_X7_round_L52, hm, ↓reduceIte, nI_le (Nat.le_refl (pnf P)) (show pnf P < 2 ^ 31 by omega)]
/-- sets below s are told, and s below p -/
def zrt (nf : Nat) (D : Nat → Nat → Int32) (h c s p : Nat) (T : Nat → Int32) : Prop := ∀ t f, 0 < t → t < 256 → f < nf → zsb t c = true → (t < s ∨ (t = s ∧ f < p)) → T (8 * t + f) = zv nf D h t f
set_option maxHeartbeats 1000000 in
theorem F7_place_ok (hQ : zMQ I P X) (hp : pInv P) (hD : isD (pnf P) (xrv X) (xds X)) {h c s p : Nat} (hh : h < pnf P) (hc : c < 256) (hs : s < 256) (hs1 : 0 < s) (hpf : p < pnf P) (hfa : zfars (pnf P) (xds X) (I 1889)) (hI : zrt (pnf P) (xds X) h c s p (I 1888)) (best : Int32) (hb : s = c → best = zmf3 (fun _ => true) (fun f => zv (pnf P) (xds X) h c f + xds X f h) p 100000) : ∃ (J : zId) (b' : Int32), F_X7_round_L143 (nI c) (nI h) (nI s) best (nI p) I = some (.inl (b', nI (p + 1), J)) ∧ zrt (pnf P) (xds X) h c s (p + 1) (J 1888) ∧ (∀ x, x ≠ 1888 → J x = I x) ∧ (s = c → b' = zmf3 (fun _ => true) (fun f => zv (pnf P) (xds X) h c f + xds X f h) (p + 1) 100000) ∧ (s ≠ c → b' = best) := by
  have hnf := hp.1
  have hle : s &&& c ≤ s := Nat.and_le_left
  have hio := F7_isOf_ok (I := I) (s := s &&& c) (f := p) (by omega) (by omega)
  have e3 := nI_sh3 s hs
  have hz0 := zsb_0 (s := s) (c := c) hs
  have hsc : (nI s = nI c) ↔ s = c := nI_eq (by omega) (by omega)
  have e8 : (8 : Int32) * nI p + nI h = nI (8 * p + h) := by rw [show (8 : Int32) * nI p = nI (8 * p) from nI_mul (a := 8) (by omega) (by decide) (by omega), nI_add]
  have e8h : (8 : Int32) * nI h + nI p = nI (8 * h + p) := by rw [show (8 : Int32) * nI h = nI (8 * h) from nI_mul (a := 8) (by omega) (by decide) (by omega), nI_add]
  have hn := (hQ.1).1
  have hpn := nI_ge hpf (show pnf P < 2 ^ 31 by omega)
  -- with a value v for the place
  have fin : ∀ v : Int32, (zsb s c = true → v = zv (pnf P) (xds X) h s p) → v.toInt ≤ 100000 → ∃ (J : zId) (b' : Int32), zg (zin ((nI s <<< ((3 : Int32) &&& (31 : Int32))) + nI p) 2048) (zlet (zu I 1888 (((nI s <<< ((3 : Int32) &&& (31 : Int32))) + nI p).toNatClampNeg) (zmin 100000 v)) (fun I_54 => if ¬ nI s = nI c then zlet (nI p + 1) (fun v6_56 => some (.inl (best, v6_56, I_54))) else zg (zin (((8 : Int32) * nI p) + nI h) 64) (zlet (zmin best (v + (I_54 1889 ((((8 : Int32) * nI p) + nI h).toNatClampNeg)))) (fun v4_59 => zlet (nI p + 1) (fun v6_61 => some (.inl (v4_59, v6_61, I_54)))))) : Option ((Int32 × Int32 × zId) ⊕ (Int32 × zId))) = some (.inl (b', nI (p + 1), J)) ∧ zrt (pnf P) (xds X) h c s (p + 1) (J 1888) ∧ (∀ x, x ≠ 1888 → J x = I x) ∧ (s = c → b' = zmf3 (fun _ => true) (fun f => zv (pnf P) (xds X) h c f + xds X f h) (p + 1) 100000) ∧ (s ≠ c → b' = best) := by
    intro v hv hv2
    have hT : zrt (pnf P) (xds X) h c s (p + 1) (zu I 1888 (8 * s + p) v 1888) := fun t f h0 h1 h2 h3 h4 => by
      by_cases g : t = s ∧ f = p
      · obtain ⟨rfl, rfl⟩ := g
        rw [zu_same]; exact hv h3
      · rw [zu_off (by omega)]
        exact hI t f h0 h1 h2 h3 (by omega)
    have hr : ∀ x, x ≠ 1888 → zu I 1888 (8 * s + p) v x = I x := fun x hx => zu_row hx
    by_cases e : s = c
    · refine ⟨zu I 1888 (8 * s + p) v, zmin best (v + xds X p h), ?_, hT, hr, fun _ => ?_, fun q => absurd e q⟩
      · simp only [e3, nI_add, zin_n (show 8 * s + p < 2048 by omega), nI_c (show 8 * s + p < 2147483648 by omega), zg_true, zlet_e, zmin_F hv2, ↓reduceIte, (show (nI s = nI c) = True from eq_true (hsc.mpr e)), not_true_eq_false, e8, zin_n (show 8 * p + h < 64 by omega), nI_c (show 8 * p + h < 2147483648 by omega), zu_row (show 1889 ≠ 1888 by decide), hfa p h hpf hh, nI_1]
      · rw [zmf3, if_pos rfl, hb e, hv (by rw [e]; exact zsb_i.mpr fun j hj => hj), e]
    · refine ⟨zu I 1888 (8 * s + p) v, best, ?_, hT, hr, fun q => absurd q e, fun _ => rfl⟩
      simp only [e3, nI_add, zin_n (show 8 * s + p < 2048 by omega), nI_c (show 8 * s + p < 2147483648 by omega), zg_true, zlet_e, zmin_F hv2, ↓reduceIte, hsc, e, not_false_eq_true, nI_1]
  unfold F_X7_round_L143
  rw [hn, if_neg hpn, nI_land, hio, zb1_e, zlet_e]
  cases hbp : (s &&& c).testBit p with
  | false =>
    rw [show (if false = true then (1 : Int32) else 0) = 0 from rfl, if_pos rfl]
    refine fin 100000 (fun hsb => ?_) (by decide)
    have : s &&& c = s := of_decide_eq_true hsb
    rw [this] at hbp
    rw [zv_e hnf hs (by omega), hbp, if_neg (by decide)]
  | true =>
    rw [show (if true = true then (1 : Int32) else 0) = 1 from rfl, if_neg (by decide)]
    by_cases hsb : zsb s c = true
    · rw [if_neg (fun q => q (hz0.mpr hsb))]
      have hbs : s.testBit p = true := by rw [Nat.testBit_and, Bool.and_eq_true] at hbp; exact hbp.1
      have hls : zls s p < s := zls_lt hs (by omega) hbs
      have hlc : zsb (zls s p) c = true := zsb_ls hs (by omega) hsb
      have e7 : nI s &&& (((1 : Int32) <<< (nI p &&& (31 : Int32))) ^^^ (-1)) = nI (zls s p) := by rw [nI_sh1 p (by omega), nI_not hs]; rfl
      rw [e7, zlet_e, zlet_e]
      have hl0 : (nI (zls s p) = 0) ↔ zls s p = 0 := nI_eq (b := 0) (by omega) (by omega)
      have hvr := zv_rg hnf hD.2.1 hh s hs p hpf
      have el := zv_e (D := xds X) (h := h) hnf hs (show p < 8 by omega)
      rw [hbs, if_pos rfl] at el
      have s5 := zloop_up (body := fun z : Int32 × Int32 => F_X7_round_L217 (nI p) I (nI (zls s p)) z.1 z.2) (fun q z => z = (if zls s p = 0 then xds X h p else zmf3 (fun q => (zls s p).testBit q) (fun q => zv (pnf P) (xds X) h (zls s p) q + xds X q p) q 100000, nI q)) (fun v => v = zv (pnf P) (xds X) h s p) (pnf P) ?_ ?_ 0 (if zls s p = 0 then xds X h p else 100000, 0) (Nat.zero_le _) rfl
      · obtain ⟨v, v1, rfl⟩ := s5
        by_cases c0 : zls s p = 0
        · rw [if_pos c0] at v1
          rw [if_neg (fun q => q (hl0.mpr c0)), e8h, zin_n (show 8 * h + p < 64 by omega), zg_true, nI_c (show 8 * h + p < 2147483648 by omega), hfa h p hh hpf]
          dsimp only
          rw [v1, zb1_e]
          exact fin _ (fun _ => rfl) hvr.2
        · rw [if_neg c0] at v1
          rw [if_pos (fun q => c0 (hl0.mp q))]
          dsimp only
          rw [v1, zb1_e]
          exact fin _ (fun _ => rfl) hvr.2
      · rintro q _ hq rfl
        dsimp only
        have ho := F7_isOf_ok (I := I) (s := zls s p) (f := q) (by omega) (by omega)
        have e3' := nI_sh3 (zls s p) (by omega)
        have e8q : (8 : Int32) * nI q + nI p = nI (8 * q + p) := by rw [show (8 : Int32) * nI q = nI (8 * q) from nI_mul (a := 8) (by omega) (by decide) (by omega), nI_add]
        refine Or.inl ⟨(if zls s p = 0 then xds X h p else zmf3 (fun q => (zls s p).testBit q) (fun q => zv (pnf P) (xds X) h (zls s p) q + xds X q p) (q + 1) 100000, nI (q + 1)), ?_, rfl⟩
        cases hbq : (zls s p).testBit q with
        | false =>
          rw [hbq, if_neg (by decide)] at ho
          simp only [F_X7_round_L217, hn, ↓reduceIte, zg_true, zb1_e, zb2_e, zb3_e, zsum, zlet_e, nI_1, nI_ge hq (show pnf P < 2 ^ 31 by omega), ho, zmf3, hbq, Bool.false_eq_true]
        | true =>
          rw [hbq, if_pos rfl] at ho
          have hne : ¬ zls s p = 0 := fun e => by rw [e, Nat.zero_testBit] at hbq; cases hbq
          have hv := hI (zls s p) q (by omega) (by omega) hq hlc (Or.inl hls)
          simp only [F_X7_round_L217, hn, ↓reduceIte, zg_true, zb1_e, zb2_e, zb3_e, zsum, zlet_e, nI_1, nI_ge hq (show pnf P < 2 ^ 31 by omega), ho, show ¬ (1 : Int32) = 0 by decide, e3', nI_add, zin_n (show 8 * zls s p + q < 2048 by omega), nI_c (show 8 * zls s p + q < 2147483648 by omega), e8q, zin_n (show 8 * q + p < 64 by omega), nI_c (show 8 * q + p < 2147483648 by omega), hv, hfa q p hq hpf, hne, zmf3, hbq]
      · rintro _ rfl
        dsimp only
        refine ⟨_, ?_, el.symm⟩
        simp only [F_X7_round_L217, hn, ↓reduceIte, nI_le (Nat.le_refl (pnf P)) (show pnf P < 2 ^ 31 by omega)]
    · rw [if_pos (fun q => hsb (hz0.mp q))]
      exact fin 100000 (fun q => absurd q hsb) (by decide)
theorem F7_round_ok (hQ : zMQ I P X) (hp : pInv P) (hi : sInv P (zmv2 (pnf P) (pnb P) I)) (hX : xInv P X) (hw : zwd (pnf P) (xrv X)) (hD : isD (pnf P) (xrv X) (xds X)) (x : Int32) : ∃ J, F_X7_round x I = some (qV (q_round P X (zmv2 (pnf P) (pnb P) I) x), J) ∧ J 1860 1 = qE (q_round P X (zmv2 (pnf P) (pnb P) I) x) ∧ zmv2 (pnf P) (pnb P) J = zmv2 (pnf P) (pnb P) I ∧ zmf I J := by
  have hc := zmf_c1 (I := I) (v := 0)
  have hQ1 := hQ.mf hc
  have em : zmv2 (pnf P) (pnb P) (zu I 1860 1 0) = zmv2 (pnf P) (pnb P) I := zmv2_c1
  have hnf := hp.1
  have hnb := hp.2.1
  have hnt := hX.1
  have h10 : ¬ (1 : Int32) = 0 := by decide
  unfold q_round
  rcases zir_cases x (n := xnt X) (by omega) with ⟨k, hk, rfl⟩ | hx
  · rw [q_fa_ok hk (by omega)]
    have hF := F7_isK_ok (by omega) hQ1.2.2.1 hk
    have hh := hX.2 k hk
    obtain ⟨hcc, hcb⟩ := zcmp_ok hp hi (pnb P) (Nat.le_refl _)
    have s1 := zloop_up (body := fun z : Int32 × Int32 => F_X7_round_L23 (zu I 1860 1 0) z.1 z.2) (fun i z => z = (nI (zcmp (zmv2 (pnf P) (pnb P) I) i), nI i)) (fun t => t = nI (zcmp (zmv2 (pnf P) (pnb P) I) (pnb P))) (pnb P) ?_ ?_ 0 (0, 0) (Nat.zero_le _) rfl
    · obtain ⟨v, t1, rfl⟩ := s1
      obtain ⟨J, u1, u2, u3⟩ := F7_fars_ok hQ1 hp hw hD
      have hQJ := hQ1.mf u3.mf
      have hft := hQJ.2.2.2.1 k hk
      generalize zcmp (zmv2 (pnf P) (pnb P) I) (pnb P) = c at *
      generalize hhe : xft X k = h at *
      have hc0 : (nI c = 0) ↔ c = 0 := nI_eq (b := 0) (by omega) (by omega)
      have s2 := zloop_up (body := fun z : Int32 × Int32 × zId => F_X7_round_L134 (nI c) (nI h) z.1 z.2.1 z.2.2) (fun i z => z.1 = (if i = c then zrd (pnf P) (xds X) h c else 100000) ∧ z.2.1 = nI (i + 1) ∧ zmr (zu I 1860 1 0) z.2.2 ∧ zfars (pnf P) (xds X) (z.2.2 1889) ∧ zrt (pnf P) (xds X) h c (i + 1) 0 (z.2.2 1888)) (fun t => t.1 = zrd (pnf P) (xds X) h c ∧ zmr (zu I 1860 1 0) t.2) c ?_ ?_ 0 (if c = 0 then 0 else 100000, 1, J) (Nat.zero_le _) ⟨?_, rfl, u3, u2, fun t f h0 h1 h2 h3 h4 => by omega⟩
      · obtain ⟨⟨b, L⟩, v1, v2, v3⟩ := s2
        dsimp only at v2 v3
        refine ⟨L, ?_, by rw [v3 1860 (by omega), zu_same]; rfl, by rw [v3.mv, em], hc.tr v3.mf⟩
        simp only [F_X7_round, hF, ↓reduceIte, zg_true, zb1_e, zb2_e, zb3_e, zsum, zlet_e, nI_1, h10, not_false_eq_true, t1, u1, zin_n (show k < 6 by omega), nI_c (show k < 2147483648 by omega), hft, ↓zlet_if, hc0, v1, zn2, qV, v2, zorn]
        split <;> rfl
      · rintro i ⟨_, _, L⟩ hic ⟨rfl, rfl, e1, e2, e3⟩
        dsimp only at e1 e2 e3
        rw [if_neg (by omega)]
        have hng : ¬ nI c < nI (i + 1) := nI_nlt (by omega) (by omega)
        have s3 := zloop_up (body := fun z : Int32 × Int32 × zId => F_X7_round_L143 (nI c) (nI h) (nI (i + 1)) z.1 z.2.1 z.2.2) (fun p z => z.2.1 = nI p ∧ (i + 1 = c → z.1 = zmf3 (fun _ => true) (fun f => zv (pnf P) (xds X) h c f + xds X f h) p 100000) ∧ (i + 1 ≠ c → z.1 = 100000) ∧ zmr (zu I 1860 1 0) z.2.2 ∧ zfars (pnf P) (xds X) (z.2.2 1889) ∧ zrt (pnf P) (xds X) h c (i + 1) p (z.2.2 1888)) (fun t => t.1 = (if i + 1 = c then zrd (pnf P) (xds X) h c else 100000) ∧ zmr (zu I 1860 1 0) t.2 ∧ zfars (pnf P) (xds X) (t.2 1889) ∧ zrt (pnf P) (xds X) h c (i + 1 + 1) 0 (t.2 1888)) (pnf P) ?_ ?_ 0 (100000, 0, L) (Nat.zero_le _) ⟨rfl, fun _ => rfl, fun _ => rfl, e1, e2, e3⟩
        · obtain ⟨⟨b, L2⟩, v1, v2, v3, v4, v5⟩ := s3
          refine Or.inl ⟨(b, nI (i + 1 + 1), L2), ?_, v2, rfl, v3, v4, v5⟩
          dsimp only
          simp only [F_X7_round_L134, hng, ↓reduceIte, zg_true, zb1_e, zb2_e, zb3_e, zsum, zlet_e, nI_1, v1, zn2]
        · rintro p ⟨b, _, L2⟩ hpf ⟨rfl, d1, d2, d3, d4, d5⟩
          dsimp only at d1 d2 d3 d4 d5
          obtain ⟨L3, b', m1, m2, m3, m4, m5⟩ := F7_place_ok (hQ1.mf d3.mf) hp hD hh hcc (show i + 1 < 256 by omega) (Nat.succ_pos i) hpf d4 d5 b d1
          refine Or.inl ⟨(b', nI (p + 1), L3), m1, rfl, m4, fun q => by rw [← d2 q]; exact m5 q, fun x hx => (m3 x (by omega)).trans (d3 x hx), ?_, m2⟩
          dsimp only
          rw [m3 1889 (by decide)]; exact d4
        · rintro ⟨b, _, L2⟩ ⟨rfl, d1, d2, d3, d4, d5⟩
          dsimp only at d1 d2 d3 d4 d5
          have hm := (hQ1.mf d3.mf).1.1
          refine ⟨(b, L2), ?_, ?_, d3, d4, fun t f h0 h1 h2 h3 h4 => d5 t f h0 h1 h2 h3 (by omega)⟩
          · dsimp only
            simp only [F_X7_round_L143, hm, ↓reduceIte, nI_le (Nat.le_refl (pnf P)) (show pnf P < 2 ^ 31 by omega)]
          · dsimp only
            by_cases q : i + 1 = c
            · rw [if_pos q, d1 q]
              unfold zrd
              rw [if_neg (by omega)]
            · rw [if_neg q, d2 q]
      · rintro ⟨b, _, L⟩ ⟨e0, rfl, e1, e2, e3⟩
        dsimp only at e0 e1
        rw [if_pos rfl] at e0
        refine ⟨(b, L), ?_, e0, e1⟩
        dsimp only
        simp only [F_X7_round_L134, ↓reduceIte, nI_lt (show c < c + 1 by omega) (show c + 1 < 2 ^ 31 by omega)]
      · dsimp only
        by_cases q : c = 0
        · rw [if_pos q, if_pos q.symm]
          unfold zrd
          rw [if_pos q]
        · rw [if_neg q, if_neg (fun e => q e.symm)]
    · rintro i _ hib rfl
      obtain ⟨ea, haf⟩ := hi.at' hp hib
      have ea' : zu I 1860 1 0 1878 i = nI (sp_f (zmv2 (pnf P) (pnb P) I) i) := by rw [← ea, ← em]; exact (zmv24 hib).symm
      refine Or.inl ⟨(nI (zcmp (zmv2 (pnf P) (pnb P) I) (i + 1)), nI (i + 1)), ?_, rfl⟩
      dsimp only
      simp only [F_X7_round_L23, hQ1.1.2.1, ↓reduceIte, zg_true, zb1_e, zb2_e, zb3_e, zsum, zlet_e, nI_1, nI_ge hib (show pnb P < 2 ^ 31 by omega), zin_n (show i < 6 by omega), nI_c (show i < 2147483648 by omega), ea', nI_sh1 _ (show sp_f (zmv2 (pnf P) (pnb P) I) i < 8 by omega), nI_lor, zcmp]
    · rintro _ rfl
      dsimp only
      simp only [F_X7_round_L23, hQ1.1.2.1, ↓reduceIte, nI_le (Nat.le_refl (pnb P)) (show pnb P < 2 ^ 31 by omega)]
      exact ⟨_, rfl, rfl⟩
  · rw [q_fa_no hx]
    have hF := F7_isK_no (by omega) hQ1.2.2.1 hx
    (obtain ⟨J, g1, g2, g3, g4⟩ := F7_fail_ok (P := P) 1 1 rfl hc em; refine ⟨J, ?_, g2, g3, g4⟩; simp only [F_X7_round, zlet_e, zb1_e, g1, zb2_e, qV, hF]; try first | rfl | exact zlt_if (n := 1) (by assumption))
end L35
