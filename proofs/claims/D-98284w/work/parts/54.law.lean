/-! CALL BY CALL, further simple calls -/
set_option maxRecDepth 100000
section L2
variable {N : Int} {σ : MS × MS} {μ : MS}
theorem pers_1 {p : Int32} (hp : 0 ≤ p.toInt ∧ p.toInt < (ga μ 0 0).toInt) (h : SL μ 0) : 0 ≤ p.toInt ∧ p.toInt ≤ 5 := by have := SL_p h; omega
theorem law_owes (h : RL N σ μ) (p q : Int32) : AG N (f_X0_owes σ p q) (f_X6_owes μ p q) μ := by
  simp only [f_X0_owes, f_X6_owes, e_two h]
  by_cases a : f_X6_areTwo μ p q = 0
  · simp only [if_pos a, if_neg (st_1 σ)]; exact ag_ref h 1
  · simp only [if_neg a, if_pos (st_0 σ)]
    obtain ⟨h1, h2, -⟩ := areTwo a
    have := h.p
    exact ag_giv h (h.t.ow (by omega) (by omega))
theorem law_balance (h : RL N σ μ) (p : Int32) : AG N (f_X0_balance σ p) (f_X6_balance μ p) μ := by
  simp only [f_X0_balance, f_X6_balance, e_isPer h]
  by_cases a : f_X6_isPerson μ p = 0
  · simp only [if_pos a, if_neg (st_1 σ)]; exact ag_ref h 1
  · simp only [if_neg a, if_pos (st_0 σ)]
    have h1 := isPer a
    have := h.p
    exact ag_giv h (e_bal h.t h.s p (by omega))
theorem e_reg (h : RL N σ μ) {p : Int32} (hp : 0 ≤ p.toInt ∧ p.toInt < (ga μ 0 0).toInt) : f_X0_regretOf σ p = f_X6_regretOf μ p := by
  have := h.p
  have q := h.t.2.1 p hp
  simp only [f_X0_regretOf, f_X6_regretOf, e_pba h.t h.s, q.2.2.1, q.2.2.2.2.2.1, e_bal h.t h.s p (by omega)]
theorem law_regret (h : RL N σ μ) (p : Int32) : AG N (f_X0_regret σ p) (f_X6_regret μ p) μ := by
  simp only [f_X0_regret, f_X6_regret, e_isPer h]
  by_cases a : f_X6_isPerson μ p = 0
  · simp only [if_pos a, if_neg (st_1 σ)]; exact ag_ref h 1
  · simp only [if_neg a, if_pos (st_0 σ)]
    exact ag_giv h (e_reg (h.st 0) (isPer a))
theorem e_sor_L (h : RL N σ μ) : ∀ (n : Nat) (a b : Int32), 0 ≤ b.toInt → (-1 ≤ a.toInt ∧ a.toInt < (ga μ 0 0).toInt ∨ a = -1) → f_X0_sorest_L4 σ n a b = f_X6_sorest_L4 μ n a b ∧ -1 ≤ (f_X6_sorest_L4 μ n a b).1.toInt := by
  intro n
  induction n with
  | zero => intro a b _ ha; exact ⟨rfl, by
      rcases ha with ha | ha
      · exact ha.1
      · exact (show -1 ≤ a.toInt by rw [ha]; decide)⟩
  | succ n ih =>
    intro a b hb ha
    have hp := h.p
    have ha1 : -1 ≤ a.toInt := by
      rcases ha with ha | ha
      · exact ha.1
      · rw [ha]; decide
    simp only [f_X0_sorest_L4, f_X6_sorest_L4, h.t.n, ← neg_m1 ha1]
    by_cases c : ga μ 0 0 ≤ b
    · simp only [if_pos c]; exact ⟨trivial, ha1⟩
    · have c' := c_nle c
      have eb : (b + 1).toInt = b.toInt + 1 := inc1 (by omega) (by omega)
      have i1 := ih a (b + 1) (by omega) ha
      have i2 := ih b (b + 1) (by omega) (Or.inl (by omega))
      simp only [if_neg c]
      by_cases c2 : a = -1
      · simp only [if_pos c2]; exact i2
      · have a0 : ¬ a.toInt = -1 := fun q => c2 (Int32.toInt_inj.mp (by rw [z_m1]; exact q))
        have a1 : a.toInt < (ga μ 0 0).toInt := by
          rcases ha with ha | ha
          · exact ha.2
          · exact absurd ha c2
        simp only [if_neg c2, e_reg h (p := b) (by omega), e_reg h (p := a) (by omega), i1.1, i2.1]
        refine ⟨trivial, ?_⟩
        split
        · exact i1.2
        · exact i2.2
theorem law_sorest (h : RL N σ μ) : AG N (f_X0_sorest σ) (f_X6_sorest μ) μ := by
  simp only [f_X0_sorest, f_X6_sorest]
  have q := e_sor_L h 7 (-1) 0 (by rw [z_0]; omega) (Or.inr rfl)
  exact ag_non h (congrArg Prod.fst q.1) q.2
theorem law_buys (h : RL N σ μ) : AG N (f_X0_buys σ) (f_X6_buys μ) μ := by
  simp only [f_X0_buys, f_X6_buys]
  exact ag_non h (e_buys h.t h.s) (buyer_rng h.s).1
theorem law_drinks (h : RL N σ μ) (p : Int32) : AG N (f_X0_drinks σ p) (f_X6_drinks μ p) μ := by
  simp only [f_X0_drinks, f_X6_drinks, e_isPer h]
  by_cases a : f_X6_isPerson μ p = 0
  · simp only [if_pos a, if_neg (st_1 σ)]; exact ag_ref h 1
  · simp only [if_neg a, if_pos (st_0 σ)]
    exact ag_giv h (e_drinks h.t (isPer a))
theorem e_ti_L (hT : RT (ttb σ) μ) (y : Int32) (hy : 0 ≤ y.toInt ∧ y.toInt ≤ 5) : ∀ (n : Nat) (a b : Int32), 0 ≤ b.toInt → f_X0_tiesOf_L17 σ y n a b = f_X6_tiesNow_L16 μ y n a b := by
  intro n
  induction n with
  | zero => intro a b _; rfl
  | succ n ih =>
    intro a b hb
    simp only [f_X0_tiesOf_L17, f_X6_tiesNow_L16]
    by_cases c : y ≤ b
    · simp only [if_pos c]
    · have c' := c_nle c
      have eb : (b + 1).toInt = b.toInt + 1 := inc1 (by omega) (by omega)
      simp only [if_neg c, hT.ow (a := y) (b := b) hy (by omega), hT.ow (a := b) (b := y) (by omega) hy, ih _ (b + 1) (by omega)]
theorem e_tis_L (hT : RT (ttb σ) μ) (hS : SL μ 0) : ∀ (n : Nat) (a b : Int32), 0 ≤ b.toInt → f_X0_tiesOf_L4 σ n a b = f_X6_tiesNow_L4 μ n a b := by
  intro n
  induction n with
  | zero => intro a b _; rfl
  | succ n ih =>
    intro a b hb
    have hp := SL_p hS
    simp only [f_X0_tiesOf_L4, f_X6_tiesNow_L4, hT.n]
    by_cases c : ga μ 0 0 ≤ b
    · simp only [if_pos c]
    · have c' := c_nle c
      have eb : (b + 1).toInt = b.toInt + 1 := inc1 (by omega) (by omega)
      simp only [if_neg c, e_ti_L hT b (by omega) 7 a 0 (by rw [z_0]; omega), ih _ (b + 1) (by omega)]
theorem e_ties (hT : RT (ttb σ) μ) (hS : SL μ 0) : f_X0_tiesOf σ = f_X6_tiesNow μ := by simp only [f_X0_tiesOf, f_X6_tiesNow, e_tis_L hT hS _ _ _ (show 0 ≤ (0 : Int32).toInt by decide)]
theorem law_ties (h : RL N σ μ) : AG N (f_X0_ties σ) (f_X6_ties μ) μ := by
  simp only [f_X0_ties, f_X6_ties]
  exact ag_giv h (e_ties (σ := lsi σ 7 0) h.t h.s)
theorem DP0_s0 {i v : Int32} {X : Int} (h : DP0 μ) (hS : SL μ 0) (hi : i.toInt = X) (hX : (0 ≤ X ∧ X < 60 ∧ ¬ X = 2) ∨ 92 ≤ X) : DP0 (sa μ 0 i v) := fun d hd => by
  have := SL_d hS
  rw [at_ne (by rw [z_2]; omega) (by omega) (by rw [z_2]; omega)] at hd
  have e := di_i (d := d) (by omega)
  rw [at_ne (by omega) (by omega) (by omega)]
  exact h d hd
theorem DP0_KP {u : MS} (h : DP0 μ) (hS : SL μ 0) (k : KP μ u) : DP0 u := fun d hd => by
  have := SL_d hS
  rw [k.2.2.2.1 2 (by rw [z_2]; omega) (by rw [z_2]; omega)] at hd
  have e := di_i (d := d) (by omega)
  rw [k.2.2.2.1 (60 + 2 * d) (by omega) (by omega)]
  exact h d hd
theorem RO_KP {ω u : MS} (h : RO ω μ) (k : KP μ u) : RO ω u := by
  obtain ⟨a, ⟨b1, b2⟩, ⟨c1, c2, c3⟩, ⟨d1, d2⟩, ⟨e, e0⟩, f1, f2⟩ := h
  have g : ∀ k, gi u k = gi μ k := fun j => k.1 j (by simp)
  refine ⟨by rw [g]; exact a, ⟨by rw [k.2.1]; exact b1, by rw [k.2.1]; exact b2⟩, ⟨by rw [g]; exact c1, by rw [g]; exact c2, fun j h0 h1 => ?_⟩, ⟨by rw [g]; exact d1, by rw [g]; exact d2⟩, ⟨by rw [g]; exact e, e0⟩, by rw [g]; exact f1, fun j h0 h1 => ?_⟩
  · rw [g] at h1
    rw [k.2.2.1 8 j (by omega) (by simp)]; exact c3 j h0 h1
  · rw [g] at h1
    rw [k.2.2.1 32 j (by omega) (by simp)]; exact f2 j h0 h1
theorem law_lend (h : RL N σ μ) (p q m : Int32) : AG N (f_X0_lend σ p q m) (f_X6_lend μ p q m) μ := by
  simp only [f_X0_lend, f_X6_lend, e_two h, isFr]
  by_cases a : f_X6_areTwo μ p q = 0
  · simp only [if_pos a, if_neg (st_1 σ)]; exact ag_ref h 1
  · simp only [if_neg a]
    by_cases b : f_X6_isFrom m.toInt64 1 9999 = 0
    · simp only [if_pos b, if_neg (st_1 σ)]; exact ag_ref h 1
    · simp only [if_neg b]
      obtain ⟨h1, h2, -⟩ := areTwo a
      have hp := h.p
      have hm : 1 ≤ m.toInt ∧ m.toInt ≤ 9999 := by
        rw [← isFr, isIn_v, Int32.toInt_toInt64] at b
        split at b
        · rename_i c; exact c
        · exact absurd rfl b
      obtain ⟨e1, ⟨e2, e3, e4⟩, e5⟩ := e_lends h.t h.s h.b (a := p) (b := q) (m := m) (by omega) (by omega) (by omega)
      have g : RL N (tput σ (f_X5_lends (ttb σ) p q m).1) (f_X6_lends μ p q m).1 := ⟨e2, ⟨e3, DP0_KP h.2.1.2.1 h.s e5, e4, h.2.1.2.2.2⟩, RO_KP h.2.2 e5⟩
      rw [e1]
      by_cases c : (f_X6_lends μ p q m).2 = 0
      · simp only [if_pos c, if_neg (st_7 _)]
        have q := ag_ref g 7
        exact ⟨q.1, q.2.1, (KE.of e5).tr q.2.2⟩
      · simp only [if_neg c, if_pos (st_0 _)]
        have q := ag_giv g (e2.ow (a := q) (b := p) (by omega) (by omega))
        exact ⟨q.1, q.2.1, (KE.of e5).tr q.2.2⟩
end L2
section L3
variable {N : Int} {σ : MS × MS} {μ : MS}
theorem law_pay (h : RL N σ μ) (p : Int32) (hN : N + 1 ≤ 900000) : AG (N + 1) (f_X0_pay σ p) (f_X6_pay μ p) μ := by
  have h' : RL (N + 1) σ μ := ⟨h.1, ⟨h.2.1.1, h.2.1.2.1, h.b.mono (by omega), hN⟩, h.2.2⟩
  simp only [f_X0_pay, f_X6_pay, e_isPer h]
  by_cases a : f_X6_isPerson μ p = 0
  · simp only [if_pos a, if_neg (st_1 σ)]; exact ag_ref h' 1
  · simp only [if_neg a]
    have h1 := isPer a
    have hp := h.p
    obtain ⟨e1, ⟨e2, e3, e4, e6⟩, e5⟩ := e_pays h.nN h.t h.s h.b (y := p) h1
    have g : RL (N + 1) (tput σ (f_X5_pays (ttb σ) p).1) (f_X6_pays μ p).1 := ⟨e2, ⟨e3, DP0_KP h.2.1.2.1 h.s e5, e4, hN⟩, RO_KP h.2.2 e5⟩
    rw [e1]
    by_cases c : (f_X6_pays μ p).2 = 0
    · simp only [if_pos c, if_neg (st_7 _)]
      have q := ag_ref g 7
      exact ⟨q.1, q.2.1, (KE.of e5).tr q.2.2⟩
    · simp only [if_neg c, if_pos (st_0 _)]
      have q := ag_giv g (e2.p (p := p) h1.1 (by rw [e6]; exact h1.2)).2.2.2.2.2.1
      exact ⟨q.1, q.2.1, (KE.of e5).tr q.2.2⟩
theorem law_round (h : RL N σ μ) : AG N (f_X0_round σ) (f_X6_round μ) μ := by
  simp only [f_X0_round, f_X6_round]
  obtain ⟨e1, ⟨e2, e3, e4⟩, e5⟩ := e_round h.t h.s h.b
  have g : RL N (tput σ (f_X5_round (ttb σ)).1) (f_X6_rounds μ).1 := ⟨e2, ⟨e3, DP0_KP h.2.1.2.1 h.s e5, e4, h.2.1.2.2.2⟩, RO_KP h.2.2 e5⟩
  have hr : -1 ≤ (f_X6_rounds μ).2.toInt := by
    have := buyer_rng h.s
    unfold f_X6_rounds
    dsimp only
    split
    · exact (by decide : (-1 : Int) ≤ (-1 : Int32).toInt)
    · exact this.1
  have q := ag_non g e1 hr
  exact ⟨q.1, q.2.1, (KE.of e5).tr q.2.2⟩
theorem law_gift (h : RL N σ μ) (p q m : Int32) : AG N (f_X0_gift σ p q m) (f_X6_gift μ p q m) μ := by
  simp only [f_X0_gift, f_X6_gift, e_two h, isFr]
  by_cases a : f_X6_areTwo μ p q = 0
  · simp only [if_pos a, if_neg (st_1 σ)]; exact ag_ref h 1
  · simp only [if_neg a]
    by_cases b : f_X6_isFrom m.toInt64 1 9999 = 0
    · simp only [if_pos b, if_neg (st_1 σ)]; exact ag_ref h 1
    · simp only [if_neg b, if_pos (st_0 σ)]
      obtain ⟨h1, h2, -⟩ := areTwo a
      have hp := h.p
      have hm : 1 ≤ m.toInt ∧ m.toInt ≤ 9999 := by
        rw [← isFr, isIn_v, Int32.toInt_toInt64] at b
        split at b
        · rename_i c; exact c
        · exact absurd rfl b
      obtain ⟨e1, ⟨e2, e3, e4⟩, e5⟩ := e_gives h.t h.s h.b (a := p) (b := q) (m := m) (by omega) (by omega) (by omega)
      have g : RL N (tput σ (f_X5_gives (ttb σ) p q m).1) (f_X6_gifts μ p q m) := ⟨e2, ⟨e3, DP0_KP h.2.1.2.1 h.s e5, e4, h.2.1.2.2.2⟩, RO_KP h.2.2 e5⟩
      have q := ag_giv g e1
      exact ⟨q.1, q.2.1, (KE.of e5).tr q.2.2⟩
theorem law_quits (h : RL N σ μ) (p q : Int32) : AG N (f_X0_quits σ p q) (f_X6_quits μ p q) μ := by
  simp only [f_X0_quits, f_X6_quits, e_two h]
  by_cases a : f_X6_areTwo μ p q = 0
  · simp only [if_pos a, if_neg (st_1 σ)]; exact ag_ref h 1
  · simp only [if_neg a, if_pos (st_0 σ)]
    obtain ⟨h1, h2, -⟩ := areTwo a
    have hp := h.p
    have e1 : f_X5_owes (ttb (lsi σ 7 0)) p q = ga μ 0 (f_X6_debtRow p q) := h.t.ow (by omega) (by omega)
    have e2 : f_X5_owes (ttb (lsi σ 7 0)) q p = ga μ 0 (f_X6_debtRow q p) := h.t.ow (by omega) (by omega)
    have o1 := SL_ow h.s (a := p) (b := q) (by omega) (by omega)
    have o2 := SL_ow h.s (a := q) (b := p) (by omega) (by omega)
    have i1 := dr_i (a := p) (b := q) (by omega) (by omega)
    have i2 := dr_i (a := q) (b := p) (by omega) (by omega)
    have hj := jmin_i (x := ga μ 0 (f_X6_debtRow p q)) (y := ga μ 0 (f_X6_debtRow q p))
    rw [e1, e2]
    generalize hm : jmin (ga μ 0 (f_X6_debtRow p q)) (ga μ 0 (f_X6_debtRow q p)) = m at hj ⊢
    have s1 : (ga μ 0 (f_X6_debtRow p q) - m).toInt = (ga μ 0 (f_X6_debtRow p q)).toInt - m.toInt := i_sub rfl rfl (by omega)
    have g1 := RT_owe (v := ga μ 0 (f_X6_debtRow p q) - m) h.t h.s (a := p) (b := q) (by omega) (by omega)
    have g2 := SL_owe (v := ga μ 0 (f_X6_debtRow p q) - m) h.s (a := p) (b := q) (by omega) (by omega) (by omega)
    have e3 : f_X5_owes (ttb (tput (lsi σ 7 0) (f_X5_owe (ttb (lsi σ 7 0)) p q (ga μ 0 (f_X6_debtRow p q) - m)))) q p = ga (sa μ 0 (f_X6_debtRow p q) (ga μ 0 (f_X6_debtRow p q) - m)) 0 (f_X6_debtRow q p) := g1.ow (by omega) (by omega)
    rw [e3]
    have e4 : ga (sa μ 0 (f_X6_debtRow p q) (ga μ 0 (f_X6_debtRow p q) - m)) 0 (f_X6_debtRow q p) = ga μ 0 (f_X6_debtRow q p) := by
      refine at_ne ?_ (by omega) (by omega)
      intro z
      have : ¬ p.toInt = q.toInt := fun z => (areTwo a).2.2 (Int32.toInt_inj.mp z)
      omega
    have s2 : (ga (sa μ 0 (f_X6_debtRow p q) (ga μ 0 (f_X6_debtRow p q) - m)) 0 (f_X6_debtRow q p) - m).toInt = (ga μ 0 (f_X6_debtRow q p)).toInt - m.toInt := by rw [e4]; exact i_sub rfl rfl (by omega)
    have k1 : KP μ (sa μ 0 (f_X6_debtRow p q) (ga μ 0 (f_X6_debtRow p q) - m)) := Fr_sa i1 (by omega) (by omega) Fr.rf
    have g3 := RT_owe (v := ga (sa μ 0 (f_X6_debtRow p q) (ga μ 0 (f_X6_debtRow p q) - m)) 0 (f_X6_debtRow q p) - m) g1 g2 (a := q) (b := p) (by omega) (by omega)
    have g4 := SL_owe (v := ga (sa μ 0 (f_X6_debtRow p q) (ga μ 0 (f_X6_debtRow p q) - m)) 0 (f_X6_debtRow q p) - m) g2 (a := q) (b := p) (by omega) (by omega) (by omega)
    have k2 : KP μ (sa (sa μ 0 (f_X6_debtRow p q) (ga μ 0 (f_X6_debtRow p q) - m)) 0 (f_X6_debtRow q p) (ga (sa μ 0 (f_X6_debtRow p q) (ga μ 0 (f_X6_debtRow p q) - m)) 0 (f_X6_debtRow q p) - m)) := Fr_sa i2 (by omega) (by omega) k1
    have g5 : RL N (tput σ (f_X5_owe (f_X5_owe (ttb σ) p q (ga μ 0 (f_X6_debtRow p q) - m)) q p (ga (sa μ 0 (f_X6_debtRow p q) (ga μ 0 (f_X6_debtRow p q) - m)) 0 (f_X6_debtRow q p) - m))) (sa (sa μ 0 (f_X6_debtRow p q) (ga μ 0 (f_X6_debtRow p q) - m)) 0 (f_X6_debtRow q p) (ga (sa μ 0 (f_X6_debtRow p q) (ga μ 0 (f_X6_debtRow p q) - m)) 0 (f_X6_debtRow q p) - m)) :=
      ⟨g3, ⟨g4, DP0_KP h.2.1.2.1 h.s k2, PB_ne (PB_ne h.b (by omega) (by omega)) (by omega) (by omega), h.2.1.2.2.2⟩, RO_KP h.2.2 k2⟩
    have q := ag_giv g5 (v := m) rfl
    exact ⟨q.1, q.2.1, (KE.of k2).tr q.2.2⟩
end L3
