/-! TEXTS: the parts of a table, both readers -/
set_option maxRecDepth 100000
theorem sa_2 {μ μ' : MS} {k : Nat} {i v : Int32} (e : μ'.2 = μ.2) : (sa μ' k i v).2 = (sa μ k i v).2 := by
  unfold sa
  simp only [e]
theorem sa_sa {μ : MS} {k : Nat} {i v w : Int32} : sa (sa μ k i v) k i w = sa μ k i w := by
  unfold sa
  refine Prod.ext rfl (Prod.ext rfl (Prod.ext ?_ rfl))
  funext j x
  by_cases c : j = k
  · by_cases c2 : x = i.toNatClampNeg <;> simp [va_up, upd, c, c2]
  · simp [va_up, c]
theorem ga_2 {μ μ' : MS} (e : μ'.2 = μ.2) (k : Nat) (i : Int32) : ga μ' k i = ga μ k i := by unfold ga; rw [e]
theorem NMS.nx {n : Nat} {base : Int32} {τ τ' μ μ' : MS} (h : NMS n base τ μ) (e : τ' = τ) (e2 : μ'.2 = μ.2) : NMS n base τ' μ' := h.of e (by rw [e2])
section TPS
variable {S A B n d : Nat} {σ : MS × MS} {μ : MS}
theorem nf {b : Bool} (h : b = false) : ¬ b = true := by rw [h]; decide
theorem n10 {x : Int32} (h : x = 1) : ¬ x = 0 := by rw [h]; decide
theorem w10 {x : Int32} (h : x = 1) : ¬ x = 4 := by rw [h]; decide
theorem ow_tp (h : TK S A B σ μ) (h0 : Z0 μ) (hP : PR n d (ttb σ) μ) (hO : TO σ μ) : TP S A μ (f_X7_owes σ) (f_X6_aDebt μ) := by
  obtain ⟨A1, B1, l1, T1, F1, G1⟩ := nx_st h
  have hAB := h.2.2.2.1.1
  have hn6 := hP.1.2.2
  have P1 : PR n d (ttb (f_X7_next σ)) (f_X6_ahead μ) := by rw [F1.1]; exact hP.of G1.1
  have O1 := hO.nx F1 G1
  have Z1 := G1.f h0
  have K1 : LK μ (f_X6_ahead μ) := LK.rf.e G1.1
  have e0 : ga μ 0 (2000 : Int32) = nI n := hP.1.2.1
  have W := wh_st (base := 24) T1 Z1 P1.nms (2495 : Int32)
  unfold f_X7_owes f_X6_aDebt
  dsimp only
  rw [e0]
  rcases W with ⟨w1, w2, w3, w4⟩ | ⟨w1, w2, A2, B2, p, l2, hp, ep, T2, F2, G2⟩
  · rw [if_pos w1, if_pos w3]
    exact TP.l w2 rfl (K1.w (k := 2495) (by omega) (by omega) w4)
  · rw [if_neg (nf w1), if_neg (n10 w2), ep]
    generalize (f_X7_who (f_X7_next σ)).1.1 = σ2 at T2 F2 ⊢
    generalize (f_X6_oldOne (f_X6_ahead μ) 24 (nI n) 2495).1 = μ2 at T2 G2 ⊢
    have P2 : PR n d (ttb σ2) μ2 := by
      rw [F2.1]
      exact (P1.hi (k := 2495) (v := nI p) (by omega) (by omega)).of G2.1
    have O2 : TO σ2 μ2 := TO.nx (μ := sa (f_X6_ahead μ) 0 2495 (nI p)) O1.sa F2 G2
    have Z2 : Z0 μ2 := G2.f Z1.sa
    have K2 : LK μ μ2 := (K1.s (k := 2495) (v := nI p) (by omega) (by omega)).e G2.1
    have g2 : ga μ2 0 (2495 : Int32) = nI p := (ga_2 G2.1 _ _).trans ga_sa_eq
    have W2 := ot_st (base := 24) T2 Z2 P2.nms (2495 : Int32) (2496 : Int32) g2 (nI_m1 (by omega))
    rcases W2 with ⟨w1, w2, w3, w4⟩ | ⟨w1, w2, A3, B3, q, l3, hq, eq, T3, F3, G3⟩
    · rw [if_pos w1, if_pos w3]
      exact TP.l w2 rfl (K2.w (k := 2496) (by omega) (by omega) w4)
    · rw [if_neg (nf w1), if_neg (n10 w2), eq]
      generalize (f_X7_otherThan σ2 (nI p)).1.1 = σ3 at T3 F3 ⊢
      generalize (f_X6_otherOne μ2 24 (nI n) 2495 2496).1 = μ3 at T3 G3 ⊢
      have P3 : PR n d (ttb σ3) μ3 := by
        rw [F3.1]
        exact (P2.hi (k := 2496) (v := nI q) (by omega) (by omega)).of G3.1
      have O3 : TO σ3 μ3 := TO.nx (μ := sa μ2 0 2496 (nI q)) O2.sa F3 G3
      have Z3 : Z0 μ3 := G3.f Z2.sa
      have K3 : LK μ μ3 := (K2.s (k := 2496) (v := nI q) (by omega) (by omega)).e G3.1
      have g3 : ga μ3 0 (2496 : Int32) = nI q := (ga_2 G3.1 _ _).trans ga_sa_eq
      have g4 : ga μ3 0 (2495 : Int32) = nI p := (ga_2 G3.1 _ _).trans ((ga_sa_ne (show (2496 : Int32).toInt = 2496 from rfl) (show (2495 : Int32).toInt = 2495 from rfl) (by omega)).trans g2)
      rw [g3, g4, ix_o p q]
      rcases nu_st T3 Z3 0 9999 (nI (2092 + 6 * p + q)) with ⟨w1, w2, w3, w4⟩ | ⟨w1, w2, A4, B4, v, l4, ev, -, T4, F4, G4⟩
      · rw [if_pos w1]
        exact TP.l w2 w3 (K3.e w4)
      · rw [if_neg (nf w1), ev]
        refine TP.r (A' := A4) (B' := B4) (n := n) (d := d) w2 ((K3.s (by omega) (by omega)).e G4.1) (by omega) (T4.tb rfl) ?_ (G4.f Z3.sa) ?_
        · show PR n d (f_X5_owe (ttb _) (nI p) (nI q) v) _
          rw [F4.1]
          exact (P3.owe (by omega) (by omega)).of G4.1
        · have O4 : TO (f_X7_number σ3 0 9999).1.1 (f_X6_number μ3 (nI (2092 + 6 * p + q)) 0 9999).1 := TO.nx (μ := sa μ3 0 (nI (2092 + 6 * p + q)) v) O3.sa F4 G4
          exact O4.of rfl rfl rfl
/-- one of no couple -/
theorem si_st {b : Int32} (h : TK S A B σ μ) (h0 : Z0 μ) (hP : PR n d (ttb σ) μ) (to : Int32) : WH S A n σ μ to (f_X7_single σ b) (f_X6_mate μ b to) := by
  have hn6 := hP.1.2.2
  have e0 : ga μ 0 (2000 : Int32) = nI n := hP.1.2.1
  rcases kn_st h hP.nms with ⟨a, k⟩ | ⟨a, c, dd, k⟩ | ⟨a, c, p, hp, dd, k⟩
  · have e1 : f_X7_single σ b = ((f_X7_wrong σ, 0), true) := by
      unfold f_X7_single
      dsimp only
      rw [k]
      exact if_pos rfl
    have e2 : f_X6_mate μ b to = f_X6_oldOne μ 24 (nI n) to := by
      unfold f_X6_mate
      dsimp only
      rw [if_pos a, e0]
    rw [e1, e2, old_0 a]
    have t := ft_wrong h h0
    exact Or.inl ⟨rfl, t.1, t.2.1, Or.inl t.2.2⟩
  · have e1 : f_X7_single σ b = ((f_X2_at σ 3 (gi (own σ) 1), 0), true) := by
      unfold f_X7_single
      dsimp only
      rw [k]
      exact if_pos rfl
    have e2 : f_X6_mate μ b to = f_X6_oldOne μ 24 (nI n) to := by
      unfold f_X6_mate
      dsimp only
      rw [if_neg (n10 a), e0, dd, if_pos rfl]
    rw [e1, e2, old_n a dd]
    have t := ft_at (h.sa to (-1)) h0 (w10 c) 3 (by decide)
    exact Or.inl ⟨rfl, t.1, t.2.1, Or.inr ⟨-1, t.2.2⟩⟩
  · have q5 := (hP.2.2.2.2.2.1 p hp).2.2.2.2
    have ei : ga μ 0 (((2012 : Int32) + ((8 : Int32) * nI p)) + (4 : Int32)) = nt μ (2012 + 8 * p + 4) := by
      rw [show (((2012 : Int32) + ((8 : Int32) * nI p)) + (4 : Int32)) = nI (2012 + 8 * p + 4) from ix_p p 4]
      rfl
    have t5 := ft_at h h0 (w10 c) 5 (by decide)
    have m1 : ¬ nI p = -1 := nI_m1 (by omega)
    by_cases z : nI p = b
    · have e1 : f_X7_single σ b = ((f_X2_at σ 5 (gi (own σ) 1), 0), true) := by
        unfold f_X7_single
        dsimp only
        rw [k, if_neg Bool.false_ne_true, if_pos z]
      have e2 : f_X6_mate μ b to = f_X6_fails μ 5 := by
        unfold f_X6_mate
        dsimp only
        rw [if_neg (n10 a), e0, dd, if_neg m1, if_pos z]
      rw [e1, e2]
      exact Or.inl ⟨rfl, t5.1, t5.2.1, Or.inl t5.2.2⟩
    · by_cases z2 : nt μ (2012 + 8 * p + 4) = -1
      · have e1 : f_X7_single σ b = ((f_X7_next σ, nI p), false) := by
          unfold f_X7_single
          dsimp only
          rw [k, if_neg Bool.false_ne_true, if_neg z, q5.1, z2, if_pos (by decide)]
        have e2 : f_X6_mate μ b to = f_X6_oldOne μ 24 (nI n) to := by
          unfold f_X6_mate
          dsimp only
          rw [if_neg (n10 a), e0, dd, if_neg m1, if_neg z, ei, if_pos z2]
        rw [e1, e2, old_p (by omega) a dd]
        have l := tk_lt h (by rw [c]; decide)
        obtain ⟨A', B', h1, h2, h3, h4⟩ := nx_st (h.sa to (nI p))
        exact Or.inr ⟨rfl, rfl, A', B', p, by omega, hp, rfl, h2, h3, h4⟩
      · have e1 : f_X7_single σ b = ((f_X2_at σ 5 (gi (own σ) 1), 0), true) := by
          unfold f_X7_single
          dsimp only
          rw [k, if_neg Bool.false_ne_true, if_neg z, q5.1, if_neg (q5.2.resolve_left z2)]
        have e2 : f_X6_mate μ b to = f_X6_fails μ 5 := by
          unfold f_X6_mate
          dsimp only
          rw [if_neg (n10 a), e0, dd, if_neg m1, if_neg z, ei, if_neg z2]
        rw [e1, e2]
        exact Or.inl ⟨rfl, t5.1, t5.2.1, Or.inl t5.2.2⟩
/-- .. who is not the first -/
theorem si_ne {b : Int32} {p : Nat} (h : (f_X7_single σ b).2 = false) (e : (f_X7_single σ b).1.2 = nI p) : ¬ nI p = b := by
  intro q
  unfold f_X7_single at h e
  dsimp only at h e
  split at h
  · exact absurd (show true = false from h) (by decide)
  · rename_i c1
    rw [if_neg c1] at e
    split at h
    · exact absurd (show true = false from h) (by decide)
    · rename_i c2
      rw [if_neg c2] at e
      split at h
      · rename_i c3
        rw [if_pos c3] at e
        exact c2 (e.trans q)
      · exact absurd (show true = false from h) (by decide)
theorem cp_tp (h : TK S A B σ μ) (h0 : Z0 μ) (hP : PR n d (ttb σ) μ) (hO : TO σ μ) (hw : gi (own σ) 3 = 1) : TP S A μ (f_X7_couple σ) (f_X6_aCouple μ) := by
  have hn6 := hP.1.2.2
  have e1 : ga μ 0 (2001 : Int32) = σ.2.1 2 := hP.2.1.symm
  unfold f_X7_couple f_X6_aCouple
  dsimp only
  rw [e1]
  by_cases c : σ.2.1 2 = 3
  · rw [if_pos c, if_pos c]
    have t := ft_at h h0 (w10 hw) 6 (by decide)
    exact Or.inl ⟨rfl, t.1, t.2.1, LK.rf.e t.2.2⟩
  · rw [if_neg c, if_neg c]
    obtain ⟨A1, B1, l1, T1, F1, G1⟩ := nx_st h
    have hAB := h.2.2.2.1.1
    have P1 : PR n d (ttb (f_X7_next σ)) (f_X6_ahead μ) := by rw [F1.1]; exact hP.of G1.1
    have O1 := hO.nx F1 G1
    have Z1 := G1.f h0
    have K1 : LK μ (f_X6_ahead μ) := LK.rf.e G1.1
    have W := si_st (b := -1) T1 Z1 P1 (2495 : Int32)
    unfold cpl1
    rcases W with ⟨w1, w2, w3, w4⟩ | ⟨w1, w2, A2, B2, p, l2, hp, ep, T2, F2, G2⟩
    · rw [if_pos w1, if_pos w3]
      exact TP.l w2 rfl (K1.w (k := 2495) (by omega) (by omega) w4)
    · rw [if_neg (nf w1), if_neg (n10 w2), ep]
      generalize (f_X7_single (f_X7_next σ) (-1)).1.1 = σ2 at T2 F2 ⊢
      generalize (f_X6_mate (f_X6_ahead μ) (-1) 2495).1 = μ2 at T2 G2 ⊢
      have P2 : PR n d (ttb σ2) μ2 := by
        rw [F2.1]
        exact (P1.hi (k := 2495) (v := nI p) (by omega) (by omega)).of G2.1
      have O2 : TO σ2 μ2 := TO.nx (μ := sa (f_X6_ahead μ) 0 2495 (nI p)) O1.sa F2 G2
      have Z2 : Z0 μ2 := G2.f Z1.sa
      have K2 : LK μ μ2 := (K1.s (k := 2495) (v := nI p) (by omega) (by omega)).e G2.1
      have g2 : ga μ2 0 (2495 : Int32) = nI p := (ga_2 G2.1 _ _).trans ga_sa_eq
      rw [g2]
      have W2 := si_st (b := nI p) T2 Z2 P2 (2496 : Int32)
      unfold cpl2
      rcases W2 with ⟨w1, w2, w3, w4⟩ | ⟨w1, w2, A3, B3, q, l3, hq, eq, T3, F3, G3⟩
      · rw [if_pos w1, if_pos w3]
        exact TP.l w2 rfl (K2.w (k := 2496) (by omega) (by omega) w4)
      · have hpq : ¬ nI q = nI p := si_ne w1 eq
        rw [if_neg (nf w1), if_neg (n10 w2), eq]
        generalize (f_X7_single σ2 (nI p)).1.1 = σ3 at T3 F3 ⊢
        generalize (f_X6_mate μ2 (nI p) 2496).1 = μ3 at T3 G3 ⊢
        have P3 : PR n d (ttb σ3) μ3 := by
          rw [F3.1]
          exact (P2.hi (k := 2496) (v := nI q) (by omega) (by omega)).of G3.1
        have O3 : TO σ3 μ3 := TO.nx (μ := sa μ2 0 2496 (nI q)) O2.sa F3 G3
        have Z3 : Z0 μ3 := G3.f Z2.sa
        have K3 : LK μ μ3 := (K2.s (k := 2496) (v := nI q) (by omega) (by omega)).e G3.1
        have g3 : ga μ3 0 (2496 : Int32) = nI q := (ga_2 G3.1 _ _).trans ga_sa_eq
        have g4 : ga μ3 0 (2495 : Int32) = nI p := (ga_2 G3.1 _ _).trans ((ga_sa_ne (show (2496 : Int32).toInt = 2496 from rfl) (show (2495 : Int32).toInt = 2495 from rfl) (by omega)).trans g2)
        rw [g3, g4]
        have ip : (((2012 : Int32) + ((8 : Int32) * nI p)) + (4 : Int32)) = nI (2012 + 8 * p + 4) := ix_p p 4
        have iq : (((2012 : Int32) + ((8 : Int32) * nI q)) + (4 : Int32)) = nI (2012 + 8 * q + 4) := ix_p q 4
        rw [ip, iq]
        have hne : ¬ p = q := fun z => hpq (by rw [z])
        refine TP.r (A' := A3) (B' := B3) (n := n) (d := d) rfl (((K3.s (by omega) (by omega)).s (by omega) (by omega)).s (k := 2001) (by omega) (by omega)) (by omega) ((((T3.tb rfl).sa _ _).sa _ _).sa _ _) ?_ Z3 (O3.of rfl rfl rfl)
        have hc : gi (ttb σ3) 2 = nt μ3 2001 := P3.2.1
        have M := P3.mates (τ' := (σ3.2.1, σ3.2.2.1, fun k => if k = 25 then upd (upd (σ3.2.2.2.1 25) (nI p).toNatClampNeg (nI q)) (nI q).toNatClampNeg (nI p) else σ3.2.2.2.1 k, σ3.2.2.2.2)) hp hq hne (fun _ => rfl) (fun k hk x => by
          show (if k = 25 then _ else σ3.2.2.2.1 k) x.toNatClampNeg = σ3.2.2.2.1 k x.toNatClampNeg
          rw [if_neg hk]) (fun x hx => by
          show upd (upd (σ3.2.2.2.1 25) (nI p).toNatClampNeg (nI q)) (nI q).toNatClampNeg (nI p) (nI x).toNatClampNeg = if x = q then nI p else if x = p then nI q else σ3.2.2.2.1 25 (nI x).toNatClampNeg
          rw [nI_clamp (by omega), nI_clamp (by omega), nI_clamp (by omega)]
          rfl) (fun _ => rfl)
        have N := M.num (k := 2) (v := σ3.2.1 2 + 1) (Or.inl rfl)
        have ev : ga (sa (sa μ3 0 (nI (2012 + 8 * p + 4)) (nI q)) 0 (nI (2012 + 8 * q + 4)) (nI p)) 0 (2001 : Int32) + 1 = σ3.2.1 2 + 1 := by
          have e2 : ga (sa (sa μ3 0 (nI (2012 + 8 * p + 4)) (nI q)) 0 (nI (2012 + 8 * q + 4)) (nI p)) 0 (2001 : Int32) = nt μ3 2001 := (nt_ne (j := 2001) (by omega) (by omega) (by omega)).trans (nt_ne (j := 2001) (by omega) (by omega) (by omega))
          rw [e2, ← hc]
          rfl
        rw [ev]
        exact N
theorem ds_tp (h : TK S A B σ μ) (h0 : Z0 μ) (hP : PR n d (ttb σ) μ) (hO : TO σ μ) (hw : gi (own σ) 3 = 1) (x : (MS × MS) × Bool) (hx : x.2 = (f_X7_dish σ).2 ∧ (x.2 = true → x.1 = (f_X7_dish σ).1.1) ∧ (x.2 = false → ∃ (d : Nat) (u : OU), d ≤ 15 ∧ σ.2.1 3 = nI d ∧ ordP (f_X7_dish σ).1.1.2 d (f_X7_dish σ).1.2.1 (f_X7_dish σ).1.2.2 u ∧ x.1 = ((f_X7_dish σ).1.1.1, ordT (f_X7_dish σ).1.1.2 u))) : TP S A μ x (f_X6_aDish μ) := by
  have hn6 := hP.1.2.2
  obtain ⟨c1, c2, c3⟩ := hP.2.2.1
  have c1 : σ.2.1 3 = nI d := c1
  have e2 : ga μ 0 (2002 : Int32) = nI d := c2
  have e0 : ga μ 0 (2000 : Int32) = nI n := hP.1.2.1
  obtain ⟨x1, x2⟩ := x
  obtain ⟨hx1, hx2, hx3⟩ := hx
  dsimp only at hx1 hx2 hx3
  -- a fault
  have BAD : ∀ (σ9 : MS × MS) (y1 : MS) (y2 : Int32), (f_X7_dish σ).2 = true → (f_X7_dish σ).1.1 = σ9 → FT σ9 y1 → y2 = 0 → LK μ y1 → TP S A μ (x1, x2) (y1, y2) := fun σ9 y1 y2 b1 b2 b3 b4 b6 => by
    have b5 := hx1.trans b1
    have b7 := (hx2 b5).trans b2
    subst b5
    subst b7
    exact TP.l b3 b4 b6
  -- a dish
  have GOOD : ∀ (σ9 : MS × MS) (v w : Int32) (μ9 μ8 : MS) (A' B' : Nat), f_X7_dish σ = ((σ9, v, w), false) → A < A' → TK S A' B' σ9 μ9 → Z0 μ9 → PR n d (ttb σ9) μ8 → TO σ9 μ9 → μ9.2 = (sa (sa μ8 0 (nI (2060 + 2 * d)) v) 0 (nI (2060 + 2 * d + 1)) w).2 → LK μ μ8 → TP S A μ (x1, x2) (sa μ9 0 2002 (ga μ9 0 2002 + 1), 1) := fun σ9 v w μ9 μ8 A' B' b1 b2 T9 Z9 P9 O9 E9 K9 => by
    have b5 : x2 = false := hx1.trans (by rw [b1])
    obtain ⟨d', u, hd', hdd, hu, ex⟩ := hx3 b5
    rw [b1] at hu ex
    have ed : d' = d := by
      rw [c1] at hdd
      exact ((nI_eq (by omega) (by omega)).mp hdd).symm
    subst ed
    refine Or.inr ⟨b5, rfl, (((K9.s (by omega) (by omega)).s (by omega) (by omega)).e E9).s (k := 2002) (by omega) (by omega), A', B', n, d' + 1, b2, ?_, ?_, Z9, ?_⟩
    · exact (T9.tb (by rw [show ((x1, x2) : (MS × MS) × Bool).1 = _ from ex])).sa _ _
    · rw [show ((x1, x2) : (MS × MS) × Bool).1 = _ from ex]
      have Q := P9.dish (v := v) (w := w) (by omega) hu
      refine Q.of ?_
      have ev : ga μ9 0 (2002 : Int32) + 1 = nI (d' + 1) := by
        have e3 : ga μ9 0 (2002 : Int32) = nI d' := (ga_2 E9 _ _).trans ((nt_ne (j := 2002) (by omega) (by omega) (by omega)).trans ((nt_ne (j := 2002) (by omega) (by omega) (by omega)).trans P9.2.2.1.2.1))
        rw [e3, nI_1]
      rw [ev]
      exact sa_2 E9
    · exact O9.of (by rw [show ((x1, x2) : (MS × MS) × Bool).1 = _ from ex]; rfl) (by rw [show ((x1, x2) : (MS × MS) × Bool).1 = _ from ex]; rfl) rfl
  unfold f_X6_aDish
  dsimp only
  rw [e2, ix_d d]
  by_cases c : nI d = (16 : Int32)
  · rw [if_pos c]
    have t := ft_at h h0 (w10 hw) 6 (by decide)
    have e1 : f_X7_dish σ = ((f_X2_at σ 6 (gi (own σ) 1), 0, 0), true) := by
      unfold f_X7_dish
      rw [c1, if_pos c]
    exact BAD _ _ _ (by rw [e1]) (by rw [e1]) t.1 t.2.1 (LK.rf.e t.2.2)
  · rw [if_neg c]
    obtain ⟨A1, B1, l1, T1, F1, G1⟩ := nx_st h
    have hAB := h.2.2.2.1.1
    have P1 : PR n d (ttb (f_X7_next σ)) (f_X6_ahead μ) := by rw [F1.1]; exact hP.of G1.1
    have O1 := hO.nx F1 G1
    have Z1 := G1.f h0
    have K1 : LK μ (f_X6_ahead μ) := LK.rf.e G1.1
    have ed : f_X7_dish σ = dshN (f_X7_next σ) := by
      unfold f_X7_dish
      rw [c1, if_neg c]
    rcases nu_st T1 Z1 1 999 (nI (2060 + 2 * d)) with ⟨w1, w2, w3, w4⟩ | ⟨w1, w2, A2, B2, v, l2, ev, -, T2, F2, G2⟩
    · rw [if_pos w3]
      have e1 : f_X7_dish σ = (((f_X7_number (f_X7_next σ) 1 999).1.1, 0, 0), true) := by
        rw [ed]
        unfold dshN
        rw [if_pos w1]
      exact BAD _ _ _ (by rw [e1]) (by rw [e1]) w2 rfl (K1.e w4)
    · rw [if_neg (n10 w2)]
      have e1 : f_X7_dish σ = dshW (f_X7_number (f_X7_next σ) 1 999).1.1 v := by
        rw [ed]
        unfold dshN
        rw [if_neg (nf w1), ev]
      generalize (f_X7_number (f_X7_next σ) 1 999).1.1 = σ2 at T2 F2 e1 ⊢
      generalize (f_X6_number (f_X6_ahead μ) (nI (2060 + 2 * d)) 1 999).1 = μ2 at T2 G2 ⊢
      have O2 : TO σ2 μ2 := TO.nx (μ := sa (f_X6_ahead μ) 0 (nI (2060 + 2 * d)) v) O1.sa F2 G2
      have Z2 : Z0 μ2 := G2.f Z1.sa
      have P2 : PR n d (ttb σ2) (f_X6_ahead μ) := by rw [F2.1]; exact P1
      have i1 : nI (2060 + 2 * d) + (1 : Int32) = nI (2060 + 2 * d + 1) := nI_1 _
      rw [i1]
      have T3 := T2.sa (nI (2060 + 2 * d + 1)) (-1)
      rcases th_st T3 (i := 21) (by omega) (k := 11) rfl with ⟨v1, v2⟩ | ⟨v1, v2, v3, v4⟩
      · rw [v2]
        dsimp only
        rw [if_pos rfl]
        exact GOOD σ2 v (-1) (sa μ2 0 (nI (2060 + 2 * d + 1)) (-1)) (f_X6_ahead μ) A2 B2 (by rw [e1]; unfold dshW; rw [if_pos v1]) (by omega) T3 Z2 P2 (O2.of rfl rfl rfl) (sa_2 G2.1) K1
      · rw [v2]
        dsimp only
        rw [if_neg (by decide)]
        obtain ⟨A4, B4, l4, T4, F4, G4⟩ := nx_st T3
        have hd1 : dshW σ2 v = (((f_X7_who (f_X7_next σ2)).1.1, v, (f_X7_who (f_X7_next σ2)).1.2), (f_X7_who (f_X7_next σ2)).2) := by
          unfold dshW
          rw [if_neg (n10 v1)]
        have Z4 : Z0 (f_X6_ahead (sa μ2 0 (nI (2060 + 2 * d + 1)) (-1))) := G4.f Z2.sa
        have O4 : TO (f_X7_next σ2) (f_X6_ahead (sa μ2 0 (nI (2060 + 2 * d + 1)) (-1))) := TO.nx (μ := sa μ2 0 (nI (2060 + 2 * d + 1)) (-1)) O2.sa F4 G4
        have g0 : ga (f_X6_ahead (sa μ2 0 (nI (2060 + 2 * d + 1)) (-1))) 0 (2000 : Int32) = nI n := (ga_2 G4.1 _ _).trans ((nt_ne (j := 2000) (by omega) (by omega) (by omega)).trans ((ga_2 G2.1 _ _).trans ((nt_ne (j := 2000) (by omega) (by omega) (by omega)).trans P1.1.2.1)))
        have N4 : NMS n 24 (ttb (f_X7_next σ2)) (f_X6_ahead (sa μ2 0 (nI (2060 + 2 * d + 1)) (-1))) := P2.nms.of F4.1 (by rw [G4.1, sa_nm, G2.1, sa_nm])
        rw [g0]
        rcases wh_st (base := 24) T4 Z4 N4 (nI (2060 + 2 * d + 1)) with ⟨w1, w2, w3, w4⟩ | ⟨w1, w2, A5, B5, p, l5, hp, ep, T5, F5, G5⟩
        · rw [if_pos w3]
          exact BAD _ _ _ (by rw [e1, hd1]; exact w1) (by rw [e1, hd1]) w2 rfl ((((((K1.s (k := 2060 + 2 * d) (v := v) (by omega) (by omega)).e G2.1).s (k := 2060 + 2 * d + 1) (v := -1) (by omega) (by omega)).e G4.1).w (by omega) (by omega) w4))
        · rw [if_neg (n10 w2)]
          refine GOOD (f_X7_who (f_X7_next σ2)).1.1 v (nI p) _ (f_X6_ahead μ) A5 B5 (by rw [e1, hd1, ep, w1]) (by omega) T5 (G5.f Z4.sa) (by rw [F5.1, F4.1]; exact P2) (TO.nx (μ := sa (f_X6_ahead (sa μ2 0 (nI (2060 + 2 * d + 1)) (-1))) 0 (nI (2060 + 2 * d + 1)) (nI p)) O4.sa F5 G5) ?_ K1
          rw [G5.1, sa_2 G4.1, sa_sa]
          exact sa_2 G2.1
end TPS
