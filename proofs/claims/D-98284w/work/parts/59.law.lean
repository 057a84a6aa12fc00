/-! CALL BY CALL: settling, chains, texts fed -/
set_option maxRecDepth 100000
section L9
variable {N : Int} {σ : MS × MS} {μ : MS}
theorem tp_step (h : RL N σ μ) (v : Int32) (ht : (gi μ 10).toInt ≤ 899) : RL N (lsi (lsa σ 1 (gi (own σ) 2) v) 2 (gi (own (lsa σ 1 (gi (own σ) 2) v)) 2 + 1)) (si (sa μ 8 (gi μ 10) v) 10 (gi (sa μ 8 (gi μ 10) v) 10 + 1)) ∧ (gi (si (sa μ 8 (gi μ 10) v) 10 (gi (sa μ 8 (gi μ 10) v) 10 + 1)) 10).toInt = (gi μ 10).toInt + 1 ∧ KE μ (si (sa μ 8 (gi μ 10) v) 10 (gi (sa μ 8 (gi μ 10) v) 10 + 1)) := by
  obtain ⟨t, ⟨s1, s2, s3, s4⟩, r0, r1, ⟨r2, r2b, r2c⟩, r3, r4, r5⟩ := h
  have e1 : (gi μ 10 + 1).toInt = (gi μ 10).toInt + 1 := inc1 (by omega) (by omega)
  have et : gi (own σ) 2 = gi μ 10 := r2
  have g0 : ga (si (sa μ 8 (gi μ 10) v) 10 (gi (sa μ 8 (gi μ 10) v) 10 + 1)) 0 = ga μ 0 := funext fun j => ga_sa_k (by decide)
  refine ⟨⟨?_, ⟨?_, ?_, ?_, s4⟩, r0, r1, ⟨?_, ?_, ?_⟩, r3, ⟨r4.1, (ga_sa_k (by decide)).trans r4.2⟩, r5.1, ?_⟩, e1, (KE_sa (k := 8) (i := gi μ 10) (v := v) (by decide)).tr KE_si⟩
  · unfold RT at t ⊢
    rw [g0]; exact t
  · unfold SL at s1 ⊢
    rw [g0]; exact s1
  · unfold DP0 at s2 ⊢
    rw [g0]; exact s2
  · unfold PB at s3 ⊢
    rw [g0]; exact s3
  · show gi (own σ) 2 + 1 = gi μ 10 + 1
    rw [et]
  · show 0 ≤ (gi μ 10 + 1).toInt ∧ (gi μ 10 + 1).toInt ≤ 900
    omega
  · intro j j0 j1
    have j1' : j.toInt < (gi μ 10 + 1).toInt := j1
    show ga (sa σ.1 1 (gi (own σ) 2) v) 1 j = ga (sa μ 8 (gi μ 10) v) 8 j
    rw [et]
    by_cases z : (gi μ 10).toInt = j.toInt
    · have := Int32.toInt_inj.mp z
      rw [← this, ga_sa_eq, ga_sa_eq]
    · rw [ar_ne z (by omega) j0, ar_ne z (by omega) j0]
      exact r2c j j0 (by omega)
  · intro j j0 j1
    exact (ga_sa_k (by decide)).trans ((r5.2 j j0 j1).trans (ga_sa_k (by decide)).symm)
theorem e_four (h : RL N σ μ) (v : Int32) (ht : (gi μ 10).toInt ≤ 896) : RL N (f_X0_lay σ v) (f_X6_four μ v) ∧ (gi (f_X6_four μ v) 10).toInt = (gi μ 10).toInt + 4 ∧ KE μ (f_X6_four μ v) := by
  obtain ⟨a1, a2, a3⟩ := tp_step h (vp_nar .byte (v >>> (24 &&& 31)).toInt8.toInt32) (by omega)
  obtain ⟨b1, b2, b3⟩ := tp_step a1 (vp_nar .byte (v >>> (16 &&& 31)).toInt8.toInt32) (by omega)
  obtain ⟨c1, c2, c3⟩ := tp_step b1 (vp_nar .byte (v >>> (8 &&& 31)).toInt8.toInt32) (by omega)
  obtain ⟨d1, d2, d3⟩ := tp_step c1 (vp_nar .byte (v >>> (0 &&& 31)).toInt8.toInt32) (by omega)
  unfold f_X0_lay f_X6_four
  exact ⟨d1, by rw [d2, c2, b2, a2]; omega, ((a3.tr b3).tr c3).tr d3⟩
theorem law_feed (h : RL N σ μ) (a b c d e : Int32) : AG N (f_X0_feed σ a b c d e) (f_X6_feed μ a b c d e) μ := by
  have ht : gi (own σ) 2 = gi μ 10 := h.2.2.2.2.1.1
  have hr := h.2.2.2.2.1.2.1
  unfold f_X0_feed f_X6_feed
  rw [ht]
  by_cases q : gi μ 10 + 20 ≤ 900
  · have q' := c_le q
    rw [i_add rfl (show (20 : Int32).toInt = 20 from rfl) (by omega), show (900 : Int32).toInt = 900 from rfl] at q'
    rw [if_pos q, if_pos q]
    obtain ⟨a1, a2, a3⟩ := e_four h a (by omega)
    obtain ⟨b1, b2, b3⟩ := e_four a1 b (by omega)
    obtain ⟨c1, c2, c3⟩ := e_four b1 c (by omega)
    obtain ⟨d1, d2, d3⟩ := e_four c1 d (by omega)
    obtain ⟨e1, e2, e3⟩ := e_four d1 e (by omega)
    exact ⟨e1.2.2.2.2.1.1, e1, (((a3.tr b3).tr c3).tr d3).tr e3⟩
  · rw [if_neg q, if_neg q]
    exact ⟨rfl, h, KE.rf⟩
end L9
-- settling
theorem sub_k : ∀ s, s < 64 → ∀ p, p < 6 → ¬ (nI s >>> (nI p &&& 31)) &&& 1 = 0 → 0 ≤ (nI s &&& (((1 : Int32) <<< (nI p &&& 31)) ^^^ (-1))).toInt ∧ (nI s &&& (((1 : Int32) <<< (nI p &&& 31)) ^^^ (-1))).toInt < (nI s).toInt := by decide +kernel
theorem sub_lt {s p : Int32} (hs : 0 ≤ s.toInt ∧ s.toInt ≤ 63) (hp : 0 ≤ p.toInt ∧ p.toInt ≤ 5) (h : ¬ (s >>> (p &&& 31)) &&& 1 = 0) : 0 ≤ (s &&& (((1 : Int32) <<< (p &&& 31)) ^^^ (-1))).toInt ∧ (s &&& (((1 : Int32) <<< (p &&& 31)) ^^^ (-1))).toInt < s.toInt := by
  obtain ⟨i, hi, rfl⟩ := small_nI (n := 63) hs
  obtain ⟨j, hj, rfl⟩ := small_nI (n := 5) hp
  exact sub_k i (by omega) j (by omega) h
theorem sub_in {s m y : Int32} (h : s &&& y = 0) : (s &&& m) &&& y = 0 := by
  rw [Int32.and_assoc, Int32.and_comm m, ← Int32.and_assoc, h, Int32.zero_and]
section L10
variable {N : Int} {σ : MS × MS} {μ : MS}
theorem RM.g16 {i v : Int32} (h : RM N σ μ) (hi : 1 ≤ i.toInt) : RM N (lsa σ 16 i v) μ := by
  obtain ⟨t, s, r0, r1, r2, r3, r4, r5⟩ := h
  exact ⟨t, s, rfl, r1, ⟨r2.1, r2.2.1, fun j j0 j1 => (ga_sa_k (by decide)).trans (r2.2.2 j j0 j1)⟩, r3, ⟨r4.1, (ar_ne (by rw [z_0]; omega) (by omega) (by decide)).trans r4.2⟩, r5.1, fun j j0 j1 => (ga_sa_k (by decide)).trans (r5.2 j j0 j1)⟩
theorem set_open_L (h : RM N σ μ) (hq : ∀ q : Int32, 0 ≤ q.toInt → q.toInt < (ga μ 0 0).toInt → ga (own σ) 17 q = f_X6_balanceOf μ q) : ∀ (n : Nat) (a b : Int32), 0 ≤ b.toInt → (0 ≤ a.toInt ∧ a.toInt ≤ 63) → f_X0_settle_L13 σ n a b = f_X6_settle_L4 μ n a b ∧ 0 ≤ (f_X6_settle_L4 μ n a b).1.toInt ∧ (f_X6_settle_L4 μ n a b).1.toInt ≤ 63 := by
  intro n
  induction n with
  | zero => intro a b _ ha; exact ⟨rfl, ha⟩
  | succ n ih =>
    intro a b hb ha
    have hp := RL.p h
    have en : gi (ttb σ) 1 = ga μ 0 0 := (RL.t h).n
    simp only [f_X0_settle_L13, f_X6_settle_L4, en]
    by_cases c : ga μ 0 0 ≤ b
    · simp only [if_pos c]; exact ⟨trivial, ha⟩
    · have c' := c_nle c
      have eb : (b + 1).toInt = b.toInt + 1 := inc1 (by omega) (by omega)
      simp only [if_neg c, hq b hb c']
      have o := or63 ha (y := if f_X6_balanceOf μ b = 0 then 0 else (1 : Int32) <<< (b &&& 31)) (by
        split
        · rw [z_0]; omega
        · have := shl5_rng (b := b) (by omega); omega)
      exact ih _ (b + 1) (by omega) o
/-- LetMe's inner loop changes but its own group -/
theorem set_in_L (y s : Int32) (hs : 1 ≤ s.toInt ∧ s.toInt ≤ 63) : ∀ (n : Nat) (a b : Int32) (σ : MS × MS), RM N σ μ → RM N (f_X0_settle_L68 y s n a b σ).2.2 μ ∧ (∀ t : Int32, 0 ≤ t.toInt → ¬ t.toInt = s.toInt → ga (own (f_X0_settle_L68 y s n a b σ).2.2) 16 t = ga (own σ) 16 t) ∧ (∀ q, ga (own (f_X0_settle_L68 y s n a b σ).2.2) 17 q = ga (own σ) 17 q) ∧ gi (own (f_X0_settle_L68 y s n a b σ).2.2) 7 = gi (own σ) 7 := by
  intro n
  induction n with
  | zero => intro a b σ h; exact ⟨h, fun _ _ _ => rfl, fun _ => rfl, rfl⟩
  | succ n ih =>
    intro a b σ h
    rw [f_X0_settle_L68]
    dsimp only
    split
    · exact ⟨h, fun _ _ _ => rfl, fun _ => rfl, rfl⟩
    · split
      · exact ih a _ σ h
      · obtain ⟨x1, x2, x3, x4⟩ := ih (a + ga (own σ) 17 b) (b + 1) (lsa σ 16 s (jmax (ga (own σ) 16 s) (ga (own σ) 16 (s &&& (((1 : Int32) <<< (b &&& 31)) ^^^ (-1)))))) (h.g16 (by omega))
        exact ⟨x1, fun t t0 t1 => (x2 t t0 t1).trans (ar_ne (fun z => t1 z.symm) (by omega) t0), fun q => (x3 q).trans (ga_sa_k (by decide)), x4⟩
/-- .. and for a set of those that owe, so does the reference's, alike -/
theorem set_lk_L (y s : Int32) (hs : 1 ≤ s.toInt ∧ s.toInt ≤ 63) (hsy : s &&& (y ^^^ (-1)) = 0) : ∀ (n : Nat) (a b : Int32) (σ : MS × MS) (u : MS), RM N σ μ → RM N σ u → (∀ j, ga u 0 j = ga μ 0 j) → (∀ q : Int32, 0 ≤ q.toInt → q.toInt < (ga μ 0 0).toInt → ga (own σ) 17 q = f_X6_balanceOf μ q) → (∀ t : Int32, 0 ≤ t.toInt → t.toInt ≤ s.toInt → t &&& (y ^^^ (-1)) = 0 → ga (own σ) 16 t = ga u 24 t) → 0 ≤ b.toInt →
    (f_X0_settle_L68 y s n a b σ).1 = (f_X6_settle_L72 y s n a b u).1 ∧ RM N (f_X0_settle_L68 y s n a b σ).2.2 (f_X6_settle_L72 y s n a b u).2.2 ∧ (∀ j, ga (f_X6_settle_L72 y s n a b u).2.2 0 j = ga μ 0 j) ∧ (∀ t : Int32, 0 ≤ t.toInt → t.toInt ≤ s.toInt → t &&& (y ^^^ (-1)) = 0 → ga (own (f_X0_settle_L68 y s n a b σ).2.2) 16 t = ga (f_X6_settle_L72 y s n a b u).2.2 24 t) ∧ KE u (f_X6_settle_L72 y s n a b u).2.2 := by
  intro n
  induction n with
  | zero => intro a b σ u h hu he hq hg _; exact ⟨rfl, hu, he, hg, KE.rf⟩
  | succ n ih =>
    intro a b σ u h hu he hq hg hb
    have hp := RL.p h
    have en : gi (ttb σ) 1 = ga μ 0 0 := (RL.t h).n
    have hhas : ∀ a b, f_X0_has a b = f_X6_isIn u a b := fun _ _ => rfl
    rw [f_X0_settle_L68, f_X6_settle_L72]
    dsimp only
    rw [en, he, hhas]
    by_cases c : ga μ 0 0 ≤ b
    · rw [if_pos c, if_pos c]; exact ⟨rfl, hu, he, hg, KE.rf⟩
    · have c' := c_nle c
      have eb : (b + 1).toInt = b.toInt + 1 := inc1 (by omega) (by omega)
      rw [if_neg c, if_neg c]
      by_cases c2 : f_X6_isIn u s b = 0
      · rw [if_pos c2, if_pos c2]; exact ih a (b + 1) σ u h hu he hq hg (by omega)
      · rw [if_neg c2, if_neg c2, hq b hb c', balanceOf_A0 he]
        have bt : ¬ (s >>> (b &&& 31)) &&& 1 = 0 := fun z => c2 ((isIn_0 _ _).mpr z)
        have sl := sub_lt (s := s) (p := b) (by omega) (by omega) bt
        have e1 := hg s (by omega) (Int.le_refl _) hsy
        have e2 := hg (s &&& (((1 : Int32) <<< (b &&& 31)) ^^^ (-1))) sl.1 (by omega) (sub_in hsy)
        rw [e1, e2]
        generalize jmax (ga u 24 s) (ga u 24 (s &&& (((1 : Int32) <<< (b &&& 31)) ^^^ (-1)))) = w
        obtain ⟨x1, x2, x3, x4, x5⟩ := ih (a + f_X6_balanceOf μ b) (b + 1) (lsa σ 16 s w) (sa u 24 s w) (h.g16 (by omega)) ((hu.g16 (i := s) (v := w) (by omega)).x5 (by decide)) (fun j => (ga_sa_k (by decide)).trans (he j)) (fun q q0 q1 => (ga_sa_k (by decide)).trans (hq q q0 q1)) (fun t t0 t1 t2 => by
          show ga (sa σ.1 16 s w) 16 t = _
          by_cases z : s.toInt = t.toInt
          · have := Int32.toInt_inj.mp z
            rw [← this, ga_sa_eq, ga_sa_eq]
          · rw [ar_ne z (by omega) t0, ar_ne z (by omega) t0]
            exact hg t t0 t1 t2) (by omega)
        exact ⟨x1, x2, x3, x4, (KE_sa (by decide)).tr x5⟩
theorem set_L (y : Int32) (hy : 0 ≤ y.toInt ∧ y.toInt ≤ 63) : ∀ (n : Nat) (s : Int32) (σ : MS × MS) (u : MS), RM N σ μ → RM N σ u → (∀ j, ga u 0 j = ga μ 0 j) → (∀ q : Int32, 0 ≤ q.toInt → q.toInt < (ga μ 0 0).toInt → ga (own σ) 17 q = f_X6_balanceOf μ q) → (∀ t : Int32, 0 ≤ t.toInt → t.toInt < s.toInt → t &&& (y ^^^ (-1)) = 0 → ga (own σ) 16 t = ga u 24 t) → 1 ≤ s.toInt → s.toInt ≤ 64 → 64 ≤ s.toInt + n →
    RM N (f_X0_settle_L51 y n s σ).2 (f_X6_settle_L40 y n s u).2 ∧ gi (own (f_X0_settle_L51 y n s σ).2) 7 = gi (own σ) 7 ∧ (∀ t : Int32, 0 ≤ t.toInt → t.toInt ≤ y.toInt → t &&& (y ^^^ (-1)) = 0 → ga (own (f_X0_settle_L51 y n s σ).2) 16 t = ga (f_X6_settle_L40 y n s u).2 24 t) ∧ KE u (f_X6_settle_L40 y n s u).2 := by
  intro n
  induction n with
  | zero => intro s σ u h hu he hq hg h1 h2 h3; exact ⟨hu, rfl, fun t t0 t1 t2 => hg t t0 (by omega) t2, KE.rf⟩
  | succ n ih =>
    intro s σ u h hu he hq hg h1 h2 h3
    rw [f_X0_settle_L51, f_X6_settle_L40]
    by_cases c : y < s
    · rw [if_pos c, if_pos c]
      have := c_lt c
      exact ⟨hu, rfl, fun t t0 t1 t2 => hg t t0 (by omega) t2, KE.rf⟩
    · have c' := c_nlt c
      have eb : (s + 1).toInt = s.toInt + 1 := inc1 (by omega) (by omega)
      have s0 : ¬ s = 0 := ne_pos h1
      rw [if_neg c, if_neg c]
      dsimp only
      rw [if_neg s0]
      by_cases c2 : s &&& (y ^^^ (-1)) = 0
      · rw [if_pos c2]
        obtain ⟨x1, x2, x3, x4, x5⟩ := set_lk_L (N := N) (μ := μ) y s ⟨h1, by omega⟩ c2 7 0 0 (lsa σ 16 s 0) (sa u 24 s 0) (h.g16 h1) ((hu.g16 (i := s) (v := 0) h1).x5 (by decide)) (fun j => (ga_sa_k (by decide)).trans (he j)) (fun q q0 q1 => (ga_sa_k (by decide)).trans (hq q q0 q1)) (fun t t0 t1 t2 => by
          show ga (sa σ.1 16 s 0) 16 t = _
          by_cases z : s.toInt = t.toInt
          · have := Int32.toInt_inj.mp z
            rw [← this, ga_sa_eq, ga_sa_eq]
          · rw [ar_ne z (by omega) t0, ar_ne z (by omega) t0]
            exact hg t t0 (by omega) t2) (by rw [z_0]; omega)
        obtain ⟨w1, w2, w3, w4⟩ := set_in_L (N := N) (μ := μ) y s ⟨h1, by omega⟩ 7 0 0 (lsa σ 16 s 0) (h.g16 h1)
        have eg := x4 s (by omega) (Int.le_refl _) c2
        rw [← x1]
        generalize f_X0_settle_L68 y s 7 0 0 (lsa σ 16 s 0) = A at x1 x2 x4 w1 w2 w3 w4 eg ⊢
        generalize f_X6_settle_L72 y s 7 0 0 (sa u 24 s 0) = B at x1 x2 x3 x4 x5 eg ⊢
        obtain ⟨A1, A2, A3⟩ := A
        obtain ⟨B1, B2, B3⟩ := B
        dsimp only at x1 x2 x3 x4 x5 w1 w2 w3 w4 eg ⊢
        have k1 : KE u (sa B3 24 s (ga B3 24 s + if A1 = 0 then 1 else 0)) := (KE_sa (k := 24) (i := s) (v := 0) (by decide)).tr (x5.tr (KE_sa (by decide)))
        by_cases c3 : A1 = 0
        · rw [if_pos c3] at k1 ⊢
          rw [if_pos c3]
          obtain ⟨y1, y2, y3, y4⟩ := ih (s + 1) (lsa A3 16 s (ga (own A3) 16 s + 1)) (sa B3 24 s (ga B3 24 s + 1)) (w1.g16 h1) ((x2.g16 (i := s) (v := ga (own A3) 16 s + 1) h1).x5 (by decide)) (fun j => (ga_sa_k (by decide)).trans (x3 j)) (fun q q0 q1 => (ga_sa_k (by decide)).trans ((w3 q).trans ((ga_sa_k (by decide)).trans (hq q q0 q1)))) (fun t t0 t1 t2 => by
            show ga (sa A3.1 16 s (ga (own A3) 16 s + 1)) 16 t = _
            by_cases z : s.toInt = t.toInt
            · have := Int32.toInt_inj.mp z
              rw [← this, ga_sa_eq, ga_sa_eq, eg]
            · rw [ar_ne z (by omega) t0, ar_ne z (by omega) t0]
              exact x4 t t0 (by omega) t2) (by omega) (by omega) (by omega)
          exact ⟨y1, y2.trans w4, y3, k1.tr y4⟩
        · rw [if_neg c3] at k1 ⊢
          rw [if_neg c3]
          obtain ⟨y1, y2, y3, y4⟩ := ih (s + 1) A3 (sa B3 24 s (ga B3 24 s + 0)) w1 (x2.x5 (by decide)) (fun j => (ga_sa_k (by decide)).trans (x3 j)) (fun q q0 q1 => (w3 q).trans ((ga_sa_k (by decide)).trans (hq q q0 q1))) (fun t t0 t1 t2 => by
            by_cases z : s.toInt = t.toInt
            · have := Int32.toInt_inj.mp z
              rw [← this, ga_sa_eq, Int32.add_zero]; exact eg
            · rw [ar_ne z (by omega) t0]
              exact x4 t t0 (by omega) t2) (by omega) (by omega) (by omega)
          exact ⟨y1, y2.trans w4, y3, k1.tr y4⟩
      · rw [if_neg c2]
        obtain ⟨w1, w2, w3, w4⟩ := set_in_L (N := N) (μ := μ) y s ⟨h1, by omega⟩ 7 0 0 (lsa σ 16 s 0) (h.g16 h1)
        obtain ⟨w1u, -, -, -⟩ := set_in_L (N := N) (μ := u) y s ⟨h1, by omega⟩ 7 0 0 (lsa σ 16 s 0) (hu.g16 h1)
        generalize f_X0_settle_L68 y s 7 0 0 (lsa σ 16 s 0) = A at w1 w2 w3 w4 w1u ⊢
        obtain ⟨A1, A2, A3⟩ := A
        dsimp only at w1 w2 w3 w4 w1u ⊢
        have k1 : KE u (sa u 24 s 0) := KE_sa (by decide)
        have gg : ∀ (A4 : MS × MS), (∀ t : Int32, 0 ≤ t.toInt → ¬ t.toInt = s.toInt → ga (own A4) 16 t = ga (own σ) 16 t) → ∀ t : Int32, 0 ≤ t.toInt → t.toInt < (s + 1).toInt → t &&& (y ^^^ (-1)) = 0 → ga (own A4) 16 t = ga (sa u 24 s 0) 24 t := fun A4 hA t t0 t1 t2 => by
          have z : ¬ s.toInt = t.toInt := fun z => c2 (by rw [Int32.toInt_inj.mp z]; exact t2)
          rw [hA t t0 (fun q => z q.symm), ar_ne z (by omega) t0]
          exact hg t t0 (by omega) t2
        have w2' : ∀ t : Int32, 0 ≤ t.toInt → ¬ t.toInt = s.toInt → ga (own A3) 16 t = ga (own σ) 16 t := fun t t0 t1 => (w2 t t0 t1).trans (ar_ne (fun z => t1 z.symm) (by omega) t0)
        by_cases c3 : A1 = 0
        · rw [if_pos c3]
          obtain ⟨y1, y2, y3, y4⟩ := ih (s + 1) (lsa A3 16 s (ga (own A3) 16 s + 1)) (sa u 24 s 0) (w1.g16 h1) ((w1u.g16 (i := s) (v := ga (own A3) 16 s + 1) h1).x5 (by decide)) (fun j => (ga_sa_k (by decide)).trans (he j)) (fun q q0 q1 => (ga_sa_k (by decide)).trans ((w3 q).trans ((ga_sa_k (by decide)).trans (hq q q0 q1)))) (gg _ (fun t t0 t1 => (ar_ne (fun z => t1 z.symm) (by omega) t0).trans (w2' t t0 t1))) (by omega) (by omega) (by omega)
          exact ⟨y1, y2.trans w4, y3, k1.tr y4⟩
        · rw [if_neg c3]
          obtain ⟨y1, y2, y3, y4⟩ := ih (s + 1) A3 (sa u 24 s 0) w1 (w1u.x5 (by decide)) (fun j => (ga_sa_k (by decide)).trans (he j)) (fun q q0 q1 => (w3 q).trans ((ga_sa_k (by decide)).trans (hq q q0 q1))) (gg _ w2') (by omega) (by omega) (by omega)
          exact ⟨y1, y2.trans w4, y3, k1.tr y4⟩
theorem self_k : ∀ y, y < 64 → nI y &&& (nI y ^^^ (-1)) = 0 := by decide +kernel
theorem law_settle (h : RL N σ μ) : AG N (f_X0_settle σ) (f_X6_settle μ) μ := by
  simp only [f_X0_settle, f_X6_settle]
  obtain ⟨b1, b2, b3⟩ := e_lay (h.m 0)
  obtain ⟨o1, o2⟩ := set_open_L b1 b3 7 0 0 (by rw [z_0]; omega) (by rw [z_0]; omega)
  rw [o1]
  generalize hy : (f_X6_settle_L4 μ 7 0 0).1 = y at o2 ⊢
  have e0 : f_X6_settle_L40 y 65 0 μ = f_X6_settle_L40 y 64 1 (sa μ 24 0 0) := by
    rw [f_X6_settle_L40, if_neg (fun z => by have := c_lt z; rw [z_0] at this; omega)]
    dsimp only
    rw [if_pos (by rw [Int32.zero_and]), if_pos rfl, show (0 : Int32) + 1 = 1 from rfl]
  rw [e0]
  have g0 : ga (own (f_X0_balances (lsi σ 7 0))) 16 0 = 0 := b1.2.2.2.2.2.2.1.2
  obtain ⟨x1, x2, x3, x4⟩ := set_L (N := N) (μ := μ) y o2 64 1 (f_X0_balances (lsi σ 7 0)) (sa μ 24 0 0) b1 (b1.x5 (by decide)) (fun j => ga_sa_k (by decide)) b3 (fun t t0 t1 _ => by
    rw [z_1] at t1
    have : t = 0 := Int32.toInt_inj.mp (by rw [z_0]; omega)
    rw [this, g0, ga_sa_eq]) (by rw [z_1]; omega) (by rw [z_1]; omega) (by rw [z_1]; omega)
  rw [bc_bits o2]
  have k1 : KE μ (f_X6_settle_L40 y 64 1 (sa μ 24 0 0)).2 := (KE_sa (k := 24) (i := 0) (v := 0) (by decide)).tr x4
  by_cases c : y = 0
  · rw [if_pos c]
    have z0 := x3 0 (by rw [z_0]; omega) (by rw [z_0]; omega) (by rw [Int32.zero_and])
    have l0 : ga (own (f_X0_settle_L51 y 64 1 (f_X0_balances (lsi σ 7 0))).2) 16 0 = 0 := x1.2.2.2.2.2.2.1.2
    have q := ag_gvR x1 (v := f_X6_bits y - 0) (w := f_X6_bits y - ga (f_X6_settle_L40 y 64 1 (sa μ 24 0 0)).2 24 y) (by
      have e24 : ga (f_X6_settle_L40 y 64 1 (sa μ 24 0 0)).2 24 y = 0 := by
        have e9 : ga (f_X6_settle_L40 y 64 1 (sa μ 24 0 0)).2 24 y = ga (f_X6_settle_L40 y 64 1 (sa μ 24 0 0)).2 24 0 := congrArg (fun t => ga (f_X6_settle_L40 y 64 1 (sa μ 24 0 0)).2 24 t) c
        rw [e9, ← z0]; exact l0
      rw [e24]) (x2.trans b2)
    exact ⟨q.1, q.2.1, k1.tr q.2.2⟩
  · rw [if_neg c]
    have ys : y &&& (y ^^^ (-1)) = 0 := by
      obtain ⟨j, hj, rfl⟩ := small_nI (n := 63) o2
      exact self_k j (by omega)
    have q := ag_gvR x1 (v := f_X6_bits y - ga (own (f_X0_settle_L51 y 64 1 (f_X0_balances (lsi σ 7 0))).2) 16 y) (w := f_X6_bits y - ga (f_X6_settle_L40 y 64 1 (sa μ 24 0 0)).2 24 y) (by rw [x3 y o2.1 (Int.le_refl _) ys]) (x2.trans b2)
    exact ⟨q.1, q.2.1, k1.tr q.2.2⟩
end L10
