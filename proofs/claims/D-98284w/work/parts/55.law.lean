/-! CALL BY CALL: odds, told numbers, strikes -/
set_option maxRecDepth 100000
section L4
variable {N : Int} {σ : MS × MS} {μ : MS}
theorem in_k (s : Int32) (k : Int64) (m : Int32) (hk : k.toInt = m.toInt) (h : 0 ≤ s.toInt ∧ s.toInt ≤ m.toInt) : ¬ f_X0_isIn s.toInt64 0 k = 0 := by
  rw [isIn_v, Int32.toInt_toInt64, hk, show (0 : Int64).toInt = 0 from rfl, if_pos h]; decide
theorem out_k (s : Int32) (k : Int64) (m : Int32) (hk : k.toInt = m.toInt) (h : s.toInt < 0 ∨ m.toInt < s.toInt) : f_X0_isIn s.toInt64 0 k = 0 := by
  rw [isIn_v, Int32.toInt_toInt64, hk, show (0 : Int64).toInt = 0 from rfl, if_neg (by omega)]
theorem law_lived (h : RL N σ μ) (k : Int32) : AG N (f_X0_lived σ k) (f_X6_lived μ k) μ := by
  obtain ⟨f1, f2⟩ := h.2.2.2.2.2.2.2
  simp only [f_X0_lived, f_X6_lived, e_rng3 k 4 4 rfl, f1]
  by_cases a : k < 0
  · simp only [if_pos a, if_neg (st_1 σ)]; exact ag_ref h 1
  · simp only [if_neg a]
    by_cases b : 4 < k
    · simp only [if_pos b, if_neg (st_1 σ), if_neg (fun q : k ≤ 4 => absurd (c_le q) (by have := c_lt b; omega))]; exact ag_ref h 1
    · have b' := c_nlt b
      have a' := c_nlt a
      rw [z_0] at a'
      rw [z_4] at b'
      simp only [if_neg b, if_pos (Int32.le_iff_toInt_le.mpr (show k.toInt ≤ (4 : Int32).toInt by rw [z_4]; omega)), if_neg (show ¬ (1 : Int32) = 0 by decide)]
      by_cases c : gi μ 33 = 0
      · simp only [if_pos c, if_neg (st_6 σ)]; exact ag_ref h 6
      · simp only [if_neg c, if_pos (st_0 σ)]
        exact ag_giv h (f2 k ⟨a', b'⟩ c)
theorem law_strike (h : RL N σ μ) : AG N (f_X0_strike σ) (f_X6_strike μ) μ := by
  simp only [f_X0_strike, f_X6_strike, h.t.d]
  have hd := SL_d h.s
  by_cases a : ga μ 0 2 = 0
  · simp only [if_pos a, if_neg (st_6 σ)]; exact ag_ref h 6
  · simp only [if_neg a, if_pos (st_0 σ)]
    have a' : ¬ (ga μ 0 2).toInt = 0 := fun q => a (Int32.toInt_inj.mp (by rw [z_0]; exact q))
    have e0 : gi (ttb (lsi σ 7 0)) 3 = ga μ 0 2 := h.t.d
    rw [e0]
    have ev : (ga μ 0 2 - 1).toInt = (ga μ 0 2).toInt - 1 := i_sub rfl z_1 (by omega)
    have e2 : ga (sa μ 0 2 (ga μ 0 2 - 1)) 0 2 = ga μ 0 2 - 1 := ga_sa_eq
    have ne : ∀ j : Int32, 0 ≤ j.toInt → ¬ j.toInt = 2 → ga (sa μ 0 2 (ga μ 0 2 - 1)) 0 j = ga μ 0 j := fun j h0 h1 => at_ne (by rw [z_2]; omega) (by rw [z_2]; omega) h0
    have g : RL N (tsi σ 3 (ga μ 0 2 - 1)) (sa μ 0 2 (ga μ 0 2 - 1)) := by
      refine ⟨⟨⟨?_, ?_, ?_, ?_, ?_, ?_, ?_, ?_, ?_⟩, ?_, ?_, ?_⟩, ⟨SL_sa z_2 (by omega) (by omega) (fun _ _ => by unfold CV; omega) h.s, ?_, PB_ne h.b (by rw [z_2]; omega) (by rw [z_2]; omega), h.2.1.2.2.2⟩, h.2.2⟩
      · rw [ne 0 (by decide) (by decide)]; exact h.t.1.1
      · rw [ne 1 (by decide) (by decide)]; exact h.t.1.2.1
      · rw [e2]; rfl
      · rw [ne 3 (by decide) (by decide)]; exact h.t.1.2.2.2.1
      · rw [ne 4 (by decide) (by decide)]; exact h.t.1.2.2.2.2.1
      · rw [ne 5 (by decide) (by decide)]; exact h.t.1.2.2.2.2.2.1
      · rw [ne 6 (by decide) (by decide)]; exact h.t.1.2.2.2.2.2.2.1
      · rw [ne 8 (by decide) (by decide)]; exact h.t.1.2.2.2.2.2.2.2.1
      · rw [ne 7 (by decide) (by decide)]; exact (gu_same (τ := ttb σ) (τ' := si (ttb σ) 3 (ga μ 0 2 - 1)) rfl (fun _ => rfl)).trans h.t.g
      · intro p hp
        rw [ne 0 (by decide) (by decide)] at hp
        have hP := h.p
        exact RP_keep (τ' := si (ttb σ) 3 (ga μ 0 2 - 1)) h.t h.s hp (by rw [z_2]; omega) (by rw [z_2]; omega) rfl rfl rfl rfl rfl rfl rfl
      · intro d hdd
        rw [e2, ev] at hdd
        have q := h.t.2.2.1 d (by omega)
        have x1 := di_i (d := d) (by omega)
        have x2 := dj_i (d := d) (by omega)
        rw [ne _ (by omega) (by omega), ne _ (by omega) (by omega)]
        exact q
      · intro c d hc hdd
        have ej := dr_i hc hdd
        rw [ne _ (by omega) (by omega)]
        exact h.t.2.2.2 c d hc hdd
      · intro d hdd
        rw [e2, ev] at hdd
        have x1 := di_i (d := d) (by omega)
        rw [ne _ (by omega) (by omega)]
        exact h.2.1.2.1 d (by omega)
    have q := ag_giv g (v := ga (ttb σ) 9 (ga μ 0 2 - 1)) (w := ga (sa μ 0 2 (ga μ 0 2 - 1)) 0 (60 + 2 * (ga μ 0 2 - 1))) (by
      have x1 := di_i (d := ga μ 0 2 - 1) (by omega)
      rw [ne _ (by omega) (by omega)]
      exact (h.t.2.2.1 (ga μ 0 2 - 1) (by omega)).1)
    rw [e2]
    exact ⟨q.1, q.2.1, (KE_s0 z_2 (by omega)).tr q.2.2⟩
theorem law_dish (h : RL N σ μ) (d k : Int32) : AG N (f_X0_dish σ d k) (f_X6_dish μ d k) μ := by
  have hd := SL_d h.s
  have e1 : f_X0_isIn d.toInt64 0 (ga μ 0 2 - 1).toInt64 = if d < 0 then 0 else if ga μ 0 2 - 1 < d then 0 else 1 := e_rng3 d _ _ (Int32.toInt_toInt64 _)
  simp only [f_X0_dish, f_X6_dish, h.t.d, e1, e_rng3 k 1 1 rfl]
  have em : (ga μ 0 2 - 1).toInt = (ga μ 0 2).toInt - 1 := i_sub rfl z_1 (by omega)
  have c1 : (ga μ 0 2 - 1 < d) ↔ (ga μ 0 2 ≤ d) := by rw [Int32.lt_iff_toInt_lt, Int32.le_iff_toInt_le]; omega
  simp only [c1]
  by_cases a : d < 0
  · simp only [if_pos a, if_neg (st_1 σ)]; exact ag_ref h 1
  · simp only [if_neg a]
    by_cases b : ga μ 0 2 ≤ d
    · simp only [if_pos b, if_neg (st_1 σ)]; exact ag_ref h 1
    · simp only [if_neg b, if_neg (show ¬ (1 : Int32) = 0 by decide)]
      by_cases c : k < 0
      · simp only [if_pos c, if_neg (st_1 σ)]; exact ag_ref h 1
      · simp only [if_neg c]
        by_cases e : 1 < k
        · simp only [if_pos e, if_neg (st_1 σ), if_neg (fun q : k ≤ 1 => absurd (c_le q) (by have := c_lt e; omega))]; exact ag_ref h 1
        · have k0 := c_nlt c
          have k1 := c_nlt e
          rw [z_0] at k0; rw [z_1] at k1
          simp only [if_neg e, if_pos (Int32.le_iff_toInt_le.mpr (show k.toInt ≤ (1 : Int32).toInt by rw [z_1]; omega)), if_neg (show ¬ (1 : Int32) = 0 by decide), if_pos (st_0 σ)]
          have d0 := c_nlt a
          rw [z_0] at d0
          have q := h.t.2.2.1 d ⟨d0, c_nle b⟩
          have r := SL_ds h.s (d := d) (by have := c_nle b; omega)
          have p1 := h.2.1.2.1 d ⟨d0, c_nle b⟩
          by_cases f : k = 0
          · subst f
            rw [if_pos rfl, Int32.add_zero]
            unfold f_X6_orNone
            dsimp only
            rw [if_neg (fun z => by rw [z, z_m1] at p1; omega)]
            exact ag_giv h q.1
          · have : k = 1 := Int32.toInt_inj.mp (by
              have : ¬ k.toInt = 0 := fun z => f (Int32.toInt_inj.mp (by rw [z_0]; exact z))
              rw [z_1]; omega)
            subst this
            rw [if_neg (by decide)]
            exact ag_nn h q.2 r.2.1
theorem law_person (h : RL N σ μ) (p k : Int32) : AG N (f_X0_person σ p k) (f_X6_person μ p k) μ := by
  simp only [f_X0_person, f_X6_person, e_isPer h, e_rng3 k 5 5 rfl]
  by_cases a : f_X6_isPerson μ p = 0
  · simp only [if_pos a, if_neg (st_1 σ)]; exact ag_ref h 1
  · simp only [if_neg a]
    by_cases c : k < 0
    · simp only [if_pos c, if_neg (st_1 σ)]; exact ag_ref h 1
    · simp only [if_neg c]
      by_cases e : 5 < k
      · simp only [if_pos e, if_neg (st_1 σ), if_neg (fun q : k ≤ 5 => absurd (c_le q) (by have := c_lt e; omega))]; exact ag_ref h 1
      · have k0 := c_nlt c
        have k1 := c_nlt e
        rw [z_0] at k0; rw [z_5] at k1
        simp only [if_neg e, if_pos (Int32.le_iff_toInt_le.mpr (show k.toInt ≤ (5 : Int32).toInt by rw [z_5]; omega)), if_neg (show ¬ (1 : Int32) = 0 by decide), if_pos (st_0 σ)]
        have hp := isPer a
        have q := h.t.2.1 p hp
        have r := SL_ps h.s (p := p) (by have := h.p; omega)
        obtain ⟨j, hj, rfl⟩ := small_nI (n := 5) (x := k) (by omega)
        have hj6 : j = 0 ∨ j = 1 ∨ j = 2 ∨ j = 3 ∨ j = 4 ∨ j = 5 := by omega
        rcases hj6 with rfl | rfl | rfl | rfl | rfl | rfl
        · rw [if_pos (show nI 0 = 0 by decide), if_neg (show ¬ nI 0 = 4 by decide)]
          exact ag_giv h (w := ga μ 0 (f_X6_personRow p + nI 0)) (q.1.trans (by rw [show nI 0 = (0 : Int32) from rfl, Int32.add_zero]))
        · rw [if_neg (show ¬ nI 1 = 0 by decide), if_pos (show nI 1 = 1 by decide), if_neg (show ¬ nI 1 = 4 by decide)]
          exact ag_giv h q.2.1
        · rw [if_neg (show ¬ nI 2 = 0 by decide), if_neg (show ¬ nI 2 = 1 by decide), if_pos (show nI 2 = 2 by decide), if_neg (show ¬ nI 2 = 4 by decide)]
          exact ag_giv h q.2.2.1
        · rw [if_neg (show ¬ nI 3 = 0 by decide), if_neg (show ¬ nI 3 = 1 by decide), if_neg (show ¬ nI 3 = 2 by decide), if_pos (show nI 3 = 3 by decide), if_neg (show ¬ nI 3 = 4 by decide)]
          exact ag_giv h q.2.2.2.1
        · rw [if_neg (show ¬ nI 4 = 0 by decide), if_neg (show ¬ nI 4 = 1 by decide), if_neg (show ¬ nI 4 = 2 by decide), if_neg (show ¬ nI 4 = 3 by decide), if_pos (show nI 4 = 4 by decide), if_pos (show nI 4 = 4 by decide)]
          exact ag_nn h q.2.2.2.2.1 r.2.2.2.2.1
        · rw [if_neg (show ¬ nI 5 = 0 by decide), if_neg (show ¬ nI 5 = 1 by decide), if_neg (show ¬ nI 5 = 2 by decide), if_neg (show ¬ nI 5 = 3 by decide), if_neg (show ¬ nI 5 = 4 by decide), if_neg (show ¬ nI 5 = 4 by decide)]
          exact ag_giv h q.2.2.2.2.2.1
theorem law_told (h : RL N σ μ) (k : Int32) : AG N (f_X0_told σ k) (f_X6_told μ k) μ := by
  have b1 : f_X5_bill (ttb (lsi σ 7 0)) = f_X6_bill μ := e_bill h.t h.s
  have b2 : f_X5_heads (ttb (lsi σ 7 0)) = f_X6_heads μ := e_heads h.t
  have b3 : f_X5_guests (ttb (lsi σ 7 0)) = ga μ 0 7 := h.t.g
  simp only [f_X0_told, f_X6_told, e_rng3 k 11 11 rfl]
  by_cases c : k < 0
  · have c' := c_lt c
    rw [z_0] at c'
    have nn : ∀ j : Nat, j ≤ 11 → ¬ k = nI j := fun j hj e => by rw [e, nI_toInt (by omega)] at c'; omega
    simp only [if_pos c, if_true, if_neg (show ¬ k = 0 from nn 0 (by omega)), if_neg (show ¬ k = 1 from nn 1 (by omega)), if_neg (show ¬ k = 2 from nn 2 (by omega)), if_neg (show ¬ k = 3 from nn 3 (by omega)), if_neg (show ¬ k = 4 from nn 4 (by omega)), if_neg (show ¬ k = 5 from nn 5 (by omega)), if_neg (show ¬ k = 6 from nn 6 (by omega)), if_neg (show ¬ k = 7 from nn 7 (by omega)), if_neg (show ¬ k = 8 from nn 8 (by omega)), if_neg (show ¬ k = 9 from nn 9 (by omega)), if_neg (show ¬ k = 10 from nn 10 (by omega)), if_neg (show ¬ k = 11 from nn 11 (by omega))]
    exact ag_ref h 1
  · simp only [if_neg c]
    by_cases e : 11 < k
    · have c' := c_lt e
      rw [show (11 : Int32).toInt = 11 from rfl] at c'
      have nn : ∀ j : Nat, j ≤ 11 → ¬ k = nI j := fun j hj e => by rw [e, nI_toInt (by omega)] at c'; omega
      simp only [if_pos e, if_true, if_neg (fun q : k ≤ 11 => absurd (c_le q) (by have := c_lt e; omega)), if_neg (show ¬ k = 0 from nn 0 (by omega)), if_neg (show ¬ k = 1 from nn 1 (by omega)), if_neg (show ¬ k = 2 from nn 2 (by omega)), if_neg (show ¬ k = 3 from nn 3 (by omega)), if_neg (show ¬ k = 4 from nn 4 (by omega)), if_neg (show ¬ k = 5 from nn 5 (by omega)), if_neg (show ¬ k = 6 from nn 6 (by omega)), if_neg (show ¬ k = 7 from nn 7 (by omega)), if_neg (show ¬ k = 8 from nn 8 (by omega)), if_neg (show ¬ k = 9 from nn 9 (by omega)), if_neg (show ¬ k = 10 from nn 10 (by omega)), if_neg (show ¬ k = 11 from nn 11 (by omega))]
      exact ag_ref h 1
    · have k0 := c_nlt c
      have k1 := c_nlt e
      rw [z_0] at k0; rw [show (11 : Int32).toInt = 11 from rfl] at k1
      simp only [if_neg e, if_pos (Int32.le_iff_toInt_le.mpr (show k.toInt ≤ (11 : Int32).toInt by rw [show (11 : Int32).toInt = 11 from rfl]; omega)), if_neg (show ¬ (1 : Int32) = 0 by decide), b1, b2, b3, bc_bits (hd_rng h.s)]
      obtain ⟨j, hj, rfl⟩ := small_nI (n := 11) (x := k) (by omega)
      have hj6 : j = 0 ∨ j = 1 ∨ j = 2 ∨ j = 3 ∨ j = 4 ∨ j = 5 ∨ j = 6 ∨ j = 7 ∨ j = 8 ∨ j = 9 ∨ j = 10 ∨ j = 11 := by omega
      have nn : ∀ a b : Nat, a ≤ 11 → b ≤ 11 → a ≠ b → ¬ nI a = nI b := fun a b ha hb n e => n ((nI_eq (by omega) (by omega)).mp e)
      have h1 := h.t.1
      rcases hj6 with rfl | rfl | rfl | rfl | rfl | rfl | rfl | rfl | rfl | rfl | rfl | rfl
      · exact ag_giv h h1.1
      · exact ag_giv h h1.2.1
      · exact ag_giv h h1.2.2.1
      · exact ag_giv h h1.2.2.2.1
      · exact ag_giv h h1.2.2.2.2.1
      · exact ag_giv h (rfl : f_X6_bill μ = f_X6_bill μ)
      · exact ag_giv h (rfl : f_X6_bits (f_X6_heads μ) = f_X6_bits (f_X6_heads μ))
      · exact ag_giv h (e_pba (σ := lsi σ 7 0) h.t h.s)
      · exact ag_giv h h1.2.2.2.2.2.1
      · exact ag_giv h h1.2.2.2.2.2.2.1
      · exact ag_giv h (rfl : ga μ 0 7 = ga μ 0 7)
      · exact ag_giv h h1.2.2.2.2.2.2.2.1
end L4
