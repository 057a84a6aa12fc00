/-! TEXTS: a test's head, both readers -/
set_option maxRecDepth 100000
section YT
variable {S A B n r : Nat} {σ : MS × MS} {μ : MS}
theorem tst_e (h : TK S A B σ μ) : f_X7_tests σ = if f_X6_inWords μ = 28 then 0 else if f_X6_inWords μ = 3 then 1 else if f_X6_inWords μ = 15 then 2 else -1 := by
  have w1 : f_X7_isWord σ 6 = 0 ↔ ¬ f_X6_inWords μ = 28 := (wd h (i := 6) (by omega)).1
  have w2 : f_X7_isWord σ 7 = 0 ↔ ¬ f_X6_inWords μ = 3 := (wd h (i := 7) (by omega)).1
  have w3 : f_X7_isWord σ 8 = 0 ↔ ¬ f_X6_inWords μ = 15 := (wd h (i := 8) (by omega)).1
  unfold f_X7_tests
  dsimp only
  by_cases c1 : f_X6_inWords μ = 28
  · rw [if_pos c1, if_neg (fun q => w1.mp q c1)]
  · rw [if_neg c1, if_pos (w1.mpr c1)]
    by_cases c2 : f_X6_inWords μ = 3
    · rw [if_pos c2, if_neg (fun q => w2.mp q c2)]
    · rw [if_neg c2, if_pos (w2.mpr c2)]
      by_cases c3 : f_X6_inWords μ = 15
      · rw [if_pos c3, if_neg (fun q => w3.mp q c3)]
      · rw [if_neg c3, if_pos (w3.mpr c3)]
/-- a sign and a number -/
def sgN (μ : MS) (r : Nat) (m : Int32) : MS × Int32 := f_X6_number (f_X6_ahead (sa μ 0 (nI (r + 5)) (gi μ 15))) (nI (r + 3)) 0 m
def sgM (μ : MS) (r : Nat) (m : Int32) : MS × Int32 := if f_X6_isSign μ 60 = 0 then (if f_X6_isSign μ 62 = 0 then (if f_X6_isSign μ 61 = 0 then f_X6_fails μ 2 else sgN μ r m) else sgN μ r m) else sgN μ r m
theorem sg_y (h : TK S A B σ μ) (h0 : Z0 μ) (hr : 2130 ≤ r ∧ r < 2490) (w a b : Int32) :
    YO S A r σ μ (whnS σ w a b) (sgM μ r (if w = 0 then 999 else 9999)) (fun y u => (y.1 = w ∧ y.2.1 = a ∧ y.2.2.1 = b) ∧ nt u (r + 5) = y.2.2.2.1 ∧ nt u (r + 3) = y.2.2.2.2 ∧ nt u r = nt μ r ∧ nt u (r + 1) = nt μ (r + 1) ∧ nt u (r + 2) = nt μ (r + 2)) := by
  have es := sg_e h
  have NUM : ∀ c : Int32, ¬ f_X6_isSign μ c = 0 → sgnC σ = c → YO S A r σ μ (whnS σ w a b) (sgN μ r (if w = 0 then 999 else 9999)) (fun y u => (y.1 = w ∧ y.2.1 = a ∧ y.2.2.1 = b) ∧ nt u (r + 5) = y.2.2.2.1 ∧ nt u (r + 3) = y.2.2.2.2 ∧ nt u r = nt μ r ∧ nt u (r + 1) = nt μ (r + 1) ∧ nt u (r + 2) = nt μ (r + 2)) := by
    intro c hc hs
    obtain ⟨c3, c15⟩ := sg_3 h hc
    obtain ⟨A1, B1, l1, T1, F1, G1⟩ := nx_st (h.sa (nI (r + 5)) (gi μ 15))
    have hAB := tk_lt h (by rw [c3]; decide)
    unfold whnS whnN sgN
    rw [hs, if_neg (by rw [es]; exact hc)]
    have W1 : WR r μ (f_X6_ahead (sa μ 0 (nI (r + 5)) (gi μ 15))) := (WR.rf.s (by omega) (by omega)).e G1.1 (g_ah _)
    rcases nu_st T1 (G1.f h0) 0 (if w = 0 then 999 else 9999) (nI (r + 3)) with ⟨w1, w2, w3, w4⟩ | ⟨w1, w2, A2, B2, x, l2, ex, hx, T2, F2, G2⟩
    · rw [if_pos w1]
      exact YO.f w2 w3 (W1.e w4 (g_nu _ _ _ _))
    · rw [if_neg (nf w1), ex]
      have E : ∀ j, j < 100000 → ¬ j = r + 3 → ¬ j = r + 5 → nt (f_X6_number (f_X6_ahead (sa μ 0 (nI (r + 5)) (gi μ 15))) (nI (r + 3)) 0 (if w = 0 then 999 else 9999)).1 j = nt μ j := fun j h1 h2 h3 => by
        rw [nt_of G2.1, nt_ne h2 h1 (by omega), nt_of G1.1, nt_ne h3 h1 (by omega)]
      refine YO.g (A' := A2) (B' := B2) w2 ⟨⟨rfl, rfl, rfl⟩, ?_, ?_, E _ (by omega) (by omega) (by omega), E _ (by omega) (by omega) (by omega), E _ (by omega) (by omega) (by omega)⟩ (W1.se (k := r + 3) (v := x) (by omega) (by omega) G2.1 (g_nu _ _ _ _)) (fun k hk => (gsa G2 k hk).trans (gsa G1 k hk)) (by omega) T2 (F1.tr F2)
      · rw [nt_of G2.1, nt_ne (by omega) (by omega) (by omega), nt_of G1.1, nt_eq rfl]
        exact c15
      · rw [nt_of G2.1]
        exact nt_eq rfl
  have c60 : f_X7_isSign σ 60 = f_X6_isSign μ 60 := es 60
  have c62 : f_X7_isSign σ 62 = f_X6_isSign μ 62 := es 62
  unfold sgM
  by_cases c1 : f_X6_isSign μ 60 = 0
  · rw [if_pos c1]
    by_cases c2 : f_X6_isSign μ 62 = 0
    · rw [if_pos c2]
      have hs : sgnC σ = 61 := by
        unfold sgnC
        rw [if_pos (c60.trans c1), if_pos (c62.trans c2)]
      by_cases c3 : f_X6_isSign μ 61 = 0
      · rw [if_pos c3]
        have t := ft_wrong h h0
        unfold whnS
        rw [hs, if_pos (by rw [es]; exact c3)]
        exact Or.inl ⟨rfl, t.1, t.2.1, WR.rf.e t.2.2 (g_fl _ _)⟩
      · rw [if_neg c3]
        exact NUM 61 c3 hs
    · rw [if_neg c2]
      exact NUM 62 c2 (by unfold sgnC; rw [if_pos (c60.trans c1), if_neg (by rw [c62]; exact c2)])
  · rw [if_neg c1]
    exact NUM 60 c1 (by unfold sgnC; rw [if_neg (by rw [c60]; exact c1)])
/-- the reference's test, from behind its word -/
def teM (μ : MS) (key : Int32) (r : Nat) : MS × Int32 :=
  if (f_X6_personTo μ (nI (r + 1))).2 = 0 then ((f_X6_personTo μ (nI (r + 1))).1, 0)
  else if key = 3 then (if (f_X6_otherOne (f_X6_personTo μ (nI (r + 1))).1 0 (ga (f_X6_personTo μ (nI (r + 1))).1 0 0) (nI (r + 1)) (nI (r + 2))).2 = 0 then ((f_X6_otherOne (f_X6_personTo μ (nI (r + 1))).1 0 (ga (f_X6_personTo μ (nI (r + 1))).1 0 0) (nI (r + 1)) (nI (r + 2))).1, 0) else sgM (f_X6_otherOne (f_X6_personTo μ (nI (r + 1))).1 0 (ga (f_X6_personTo μ (nI (r + 1))).1 0 0) (nI (r + 1)) (nI (r + 2))).1 r 9999)
  else if key = 15 then ((f_X6_personTo μ (nI (r + 1))).1, 1) else sgM (f_X6_personTo μ (nI (r + 1))).1 r 999
theorem te_e (key : Int32) (hk : f_X6_inWords μ = key) (h3 : key = 28 ∨ key = 3 ∨ key = 15) : f_X6_test μ (nI r) = teM (f_X6_ahead (sa μ 0 (nI r) (2400 + key))) key r := by
  have i1 : nI r + (1 : Int32) = nI (r + 1) := nI_1 r
  have i2 : nI r + (2 : Int32) = nI (r + 2) := nI_add r 2
  have i3 : nI r + (3 : Int32) = nI (r + 3) := nI_add r 3
  have i5 : nI r + (5 : Int32) = nI (r + 5) := nI_add r 5
  unfold f_X6_test teM sgM sgN
  dsimp only
  rw [hk, i1, i2, i3, i5]
  rcases h3 with z | z | z <;> subst z
  · rw [if_pos rfl, if_neg (show ¬ (28 : Int32) = 3 by decide), if_neg (show ¬ (28 : Int32) = 3 by decide), if_neg (show ¬ (28 : Int32) = 15 by decide), if_neg (show ¬ (28 : Int32) = 15 by decide), if_pos (rfl : (28 : Int32) = 28)]
  · rw [if_neg (show ¬ (3 : Int32) = 28 by decide), if_pos rfl, if_pos rfl, if_pos rfl, if_neg (show ¬ (3 : Int32) = 15 by decide), if_neg (show ¬ (3 : Int32) = 28 by decide)]
  · rw [if_neg (show ¬ (15 : Int32) = 28 by decide), if_neg (show ¬ (15 : Int32) = 3 by decide), if_pos rfl, if_neg (show ¬ (15 : Int32) = 3 by decide), if_neg (show ¬ (15 : Int32) = 3 by decide), if_pos rfl, if_pos rfl]
theorem test_y (h : TK S A B σ μ) (h0 : Z0 μ) (hN : NMS n 0 (ttb σ) μ) (hp : ga μ 0 0 = nI n) (hr : 2130 ≤ r ∧ r < 2490) :
    YO S A r σ μ (f_X7_when σ) (f_X6_test μ (nI r)) (fun y u => ((nt u r = 2428 ∧ y.1 = 0 ∧ nt u (r + 5) = y.2.2.2.1 ∧ nt u (r + 3) = y.2.2.2.2) ∨ (nt u r = 2403 ∧ y.1 = 1 ∧ (nt u (r + 2) = y.2.2.1 ∧ ∃ p, p < n ∧ y.2.2.1 = nI p) ∧ nt u (r + 5) = y.2.2.2.1 ∧ nt u (r + 3) = y.2.2.2.2) ∨ (nt u r = 2415 ∧ y.1 = 2)) ∧ nt u (r + 1) = y.2.1 ∧ ∃ p, p < n ∧ y.2.1 = nI p) := by
  have hn6 := hN.2.1
  have et := tst_e h
  -- behind the word
  have MAIN : ∀ key w : Int32, f_X6_inWords μ = key → f_X7_tests σ = w → ((key = 28 ∧ w = 0) ∨ (key = 3 ∧ w = 1) ∨ (key = 15 ∧ w = 2)) → YO S A r σ μ (f_X7_when σ) (f_X6_test μ (nI r)) (fun y u => ((nt u r = 2428 ∧ y.1 = 0 ∧ nt u (r + 5) = y.2.2.2.1 ∧ nt u (r + 3) = y.2.2.2.2) ∨ (nt u r = 2403 ∧ y.1 = 1 ∧ (nt u (r + 2) = y.2.2.1 ∧ ∃ p, p < n ∧ y.2.2.1 = nI p) ∧ nt u (r + 5) = y.2.2.2.1 ∧ nt u (r + 3) = y.2.2.2.2) ∨ (nt u r = 2415 ∧ y.1 = 2)) ∧ nt u (r + 1) = y.2.1 ∧ ∃ p, p < n ∧ y.2.1 = nI p) := by
    intro key w hk hw hkw
    have hwn : 0 ≤ w := by rcases hkw with ⟨-, z⟩ | ⟨-, z⟩ | ⟨-, z⟩ <;> rw [z] <;> decide
    have ew : f_X7_when σ = whnA (f_X7_next σ) w := by
      unfold f_X7_when
      rw [hw, if_pos hwn]
    rw [ew, te_e key hk (by rcases hkw with ⟨z, -⟩ | ⟨z, -⟩ | ⟨z, -⟩ <;> rw [z] <;> decide)]
    obtain ⟨A1, B1, l1, T1, F1, G1⟩ := nx_st (h.sa (nI r) (2400 + key))
    have hAB := h.2.2.2.1.1
    have W1 : WR r μ (f_X6_ahead (sa μ 0 (nI r) (2400 + key))) := (WR.rf.s (by omega) (by omega)).e G1.1 (g_ah _)
    have N1 : NMS n 0 (ttb (f_X7_next σ)) (f_X6_ahead (sa μ 0 (nI r) (2400 + key))) := hN.sa.nx F1.1 G1.1
    have p1 : ga (f_X6_ahead (sa μ 0 (nI r) (2400 + key))) 0 0 = nI n := (ga_2 G1.1 0 0).trans ((nt_ne (j := 0) (by omega) (by omega) (by omega)).trans hp)
    have c1 : nt (f_X6_ahead (sa μ 0 (nI r) (2400 + key))) r = 2400 + key := (nt_of G1.1 _).trans (nt_eq rfl)
    have Z1 : Z0 (f_X6_ahead (sa μ 0 (nI r) (2400 + key))) := G1.f h0
    have I1 := gsa G1
    unfold teM whnA
    generalize f_X6_ahead (sa μ 0 (nI r) (2400 + key)) = μ1 at T1 W1 N1 p1 c1 Z1 I1 ⊢
    generalize f_X7_next σ = σ1 at T1 F1 N1 ⊢
    have e2 : f_X6_personTo μ1 (nI (r + 1)) = f_X6_oldOne μ1 0 (nI n) (nI (r + 1)) := by
      unfold f_X6_personTo
      dsimp only
      rw [p1]
    rw [e2]
    rcases wh_st (base := 0) T1 Z1 N1 (nI (r + 1)) with ⟨w1, w2, w3, w4⟩ | ⟨w1, w2, A2, B2, p, l2, hp2, ep, T2, F2, G2⟩
    · rw [if_pos w1, if_pos w3]
      exact YO.l w2 rfl (W1.w (by omega) (by omega) w4 (g_ol _ _ _ _))
    rw [if_neg (nf w1), if_neg (n10 w2), ep]
    have W2 : WR r μ (f_X6_oldOne μ1 0 (nI n) (nI (r + 1))).1 := W1.se (k := r + 1) (v := nI p) (by omega) (by omega) G2.1 (g_ol _ _ _ _)
    have N2 : NMS n 0 (ttb (f_X7_who σ1).1.1) (f_X6_oldOne μ1 0 (nI n) (nI (r + 1))).1 := N1.sa.nx F2.1 G2.1
    have p2 : ga (f_X6_oldOne μ1 0 (nI n) (nI (r + 1))).1 0 0 = nI n := (ga_2 G2.1 0 0).trans ((nt_ne (j := 0) (by omega) (by omega) (by omega)).trans p1)
    have c2 : nt (f_X6_oldOne μ1 0 (nI n) (nI (r + 1))).1 r = 2400 + key := (nt_of G2.1 _).trans ((nt_ne (by omega) (by omega) (by omega)).trans c1)
    have c3 : nt (f_X6_oldOne μ1 0 (nI n) (nI (r + 1))).1 (r + 1) = nI p := (nt_of G2.1 _).trans (nt_eq rfl)
    have Z2 : Z0 (f_X6_oldOne μ1 0 (nI n) (nI (r + 1))).1 := G2.f Z1
    have I2 : ∀ k, k ∉ [12, 13, 14, 15] → gi (f_X6_oldOne μ1 0 (nI n) (nI (r + 1))).1 k = gi μ k := fun k hk => (gsa G2 k hk).trans (I1 k hk)
    generalize (f_X6_oldOne μ1 0 (nI n) (nI (r + 1))).1 = μ2 at T2 W2 N2 p2 c2 c3 Z2 I2 ⊢
    generalize (f_X7_who σ1).1.1 = σ2 at T2 F2 N2 ⊢
    rcases hkw with ⟨z, z2⟩ | ⟨z, z2⟩ | ⟨z, z2⟩
    · -- paid
      subst z; subst z2
      rw [if_neg (show ¬ (28 : Int32) = 3 by decide), if_neg (show ¬ (28 : Int32) = 15 by decide), if_neg (show ¬ (0 : Int32) = 2 by decide), if_neg (show ¬ (0 : Int32) = 1 by decide)]
      have q := sg_y T2 Z2 hr 0 (nI p) (-1)
      rw [if_pos rfl] at q
      rcases q with ⟨q1, q2, q3, q4⟩ | ⟨v, q1, q2, ⟨⟨r1, r2, r3⟩, r4, r5, r6, r7, r8⟩, q4, q5, A3, B3, l3, T3, F3⟩
      · exact Or.inl ⟨q1, q2, q3, W2.tr q4⟩
      · exact Or.inr ⟨v, q1, q2, ⟨Or.inl ⟨r6.trans c2, r1, r4, r5⟩, (r7.trans c3).trans r2.symm, p, hp2, r2⟩, W2.tr q4, fun k hk => (q5 k hk).trans (I2 k hk), A3, B3, by omega, T3, (F1.tr F2).tr F3⟩
    · -- owes
      subst z; subst z2
      rw [if_pos rfl, if_neg (show ¬ (1 : Int32) = 2 by decide), if_pos rfl, p2]
      unfold whnO
      rcases ot_st (base := 0) T2 Z2 N2 (nI (r + 1)) (nI (r + 2)) c3 (nI_m1 (by omega)) with ⟨w1, w2, w3, w4⟩ | ⟨w1, w2, A3, B3, q9, l3, hq, eq, T3, F3, G3⟩
      · rw [if_pos w1, if_pos w3]
        exact YO.l w2 rfl (W2.w (by omega) (by omega) w4 (g_ot _ _ _ _ _))
      rw [if_neg (nf w1), if_neg (n10 w2), eq]
      have W3 : WR r μ (f_X6_otherOne μ2 0 (nI n) (nI (r + 1)) (nI (r + 2))).1 := W2.se (k := r + 2) (v := nI q9) (by omega) (by omega) G3.1 (g_ot _ _ _ _ _)
      have q := sg_y T3 (G3.f Z2) hr 1 (nI p) (nI q9)
      rw [if_neg (show ¬ (1 : Int32) = 0 by decide)] at q
      rcases q with ⟨q1, q2, q3, q4⟩ | ⟨v, q1, q2, ⟨⟨r1, r2, r3⟩, r4, r5, r6, r7, r8⟩, q4, q5, A4, B4, l4, T4, F4⟩
      · exact Or.inl ⟨q1, q2, q3, W3.tr q4⟩
      · refine Or.inr ⟨v, q1, q2, ⟨Or.inr (Or.inl ⟨?_, r1, ⟨?_, q9, hq, r3⟩, r4, r5⟩), ?_, p, hp2, r2⟩, W3.tr q4, fun k hk => (q5 k hk).trans ((gsa G3 k hk).trans (I2 k hk)), A4, B4, by omega, T4, ((F1.tr F2).tr F3).tr F4⟩
        · rw [r6, nt_of G3.1, nt_ne (by omega) (by omega) (by omega)]; exact c2
        · rw [r8, nt_of G3.1, nt_eq rfl]; exact r3.symm
        · rw [r7, nt_of G3.1, nt_ne (by omega) (by omega) (by omega), c3]; exact r2.symm
    · -- turn
      subst z; subst z2
      rw [if_neg (show ¬ (15 : Int32) = 3 by decide), if_pos rfl, if_pos rfl]
      exact YO.r (A' := A2) (B' := B2) rfl ⟨Or.inr (Or.inr ⟨c2, rfl⟩), c3, p, hp2, rfl⟩ W2 I2 (by omega) T2 (F1.tr F2)
  by_cases c1 : f_X6_inWords μ = 28
  · exact MAIN 28 0 c1 (by rw [et, if_pos c1]) (Or.inl ⟨rfl, rfl⟩)
  by_cases c2 : f_X6_inWords μ = 3
  · exact MAIN 3 1 c2 (by rw [et, if_neg c1, if_pos c2]) (Or.inr (Or.inl ⟨rfl, rfl⟩))
  by_cases c3 : f_X6_inWords μ = 15
  · exact MAIN 15 2 c3 (by rw [et, if_neg c1, if_neg c2, if_pos c3]) (Or.inr (Or.inr ⟨rfl, rfl⟩))
  have e1 : f_X7_when σ = (f_X7_wrong σ, none) := by
    unfold f_X7_when
    rw [et, if_neg c1, if_neg c2, if_neg c3]
    exact if_neg (by decide)
  have e2 : f_X6_test μ (nI r) = f_X6_fails μ 2 := by
    unfold f_X6_test
    dsimp only
    rw [if_neg c1, if_neg c2, if_neg c3]
  have t := ft_wrong h h0
  rw [e1, e2]
  exact Or.inl ⟨rfl, t.1, t.2.1, WR.rf.e t.2.2 (g_fl _ _)⟩
end YT
