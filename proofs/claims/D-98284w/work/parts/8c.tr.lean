/-! TEXTS: a person, both readers; the parts; the whole table -/
set_option maxRecDepth 100000
theorem psnE_e {σ7 σ : MS × MS} {n : Nat} {nm : Int64} {i q m v w : Int32} (hτ : σ7.2 = σ.2) (c1 : σ.2.1 1 = nI n) (hn : n < 6) : psnE σ7 nm i q m v w = (σ7.1, (upd σ.2.1 1 (nI (n + 1)), σ.2.2.1, fun k => if k = 21 then upd (σ.2.2.2.1 21) n i else if k = 22 then upd (σ.2.2.2.1 22) n q else if k = 23 then upd (σ.2.2.2.1 23) n m else if k = 24 then upd (σ.2.2.2.1 24) n v else if k = 25 then upd (σ.2.2.2.1 25) n (-1) else if k = 26 then upd (σ.2.2.2.1 26) n w else σ.2.2.2.1 k, fun k => if k = 20 then vp_updL (σ.2.2.2.2 20) n nm else σ.2.2.2.2 k)) := by
  unfold psnE
  rw [hτ, c1, nI_clamp (by omega), nI_1]
section TRS
variable {S A B n d : Nat} {σ : MS × MS} {μ : MS}
/-- the last of a person: whether it is a guest -/
theorem ps_end {σ7 : MS × MS} {μ7 : MS} {nm : Int64} {i q m v : Int32} {A0 : Nat} (T : TK S A B σ7 μ7) (hA : A0 < A) (Z : Z0 μ7) (O : TO σ7 μ7) (hτ : σ7.2 = σ.2) (hP : PR n d (ttb σ) μ) (hn : n < 6) (hNM : NMr nm (f_X6_nameHere (f_X6_ahead μ)))
    (hF : ∀ k, 2000 ≤ k → k < 2130 → nt μ7 k = if k = 2012 + 8 * n + 3 then v else if k = 2012 + 8 * n + 2 then m else if k = 2012 + 8 * n + 1 then q else if k = 2012 + 8 * n then i else if k = 2012 + 8 * n + 4 then -1 else nt μ k)
    (hN : ∀ p, p < 6 → gb μ7 1 (24 + nI p) = if p = n then f_X6_nameHere (f_X6_ahead μ) else gb μ 1 (24 + nI p)) (K : LK μ μ7) : TP S A0 μ (psnG σ7 nm i q m v) (psT n μ7) := by
  have c1 : σ.2.1 1 = nI n := hP.1.1
  have FIN : ∀ (σ8 : MS × MS) (μ8 : MS) (w : Int32) (A8 B8 : Nat), A0 < A8 → TK S A8 B8 σ8 μ8 → σ8.2 = σ.2 → Z0 μ8 → TO σ8 μ8 → (∀ k, 2000 ≤ k → k < 2130 → nt μ8 k = if k = 2007 then nt μ7 2007 ||| (if w = 0 then 0 else (1 : Int32) <<< (nI n &&& 31)) else nt μ7 k) → μ8.2.2.2 = μ7.2.2.2 → LK μ μ8 → TP S A0 μ (psnE σ8 nm i q m v w, false) (sa (sa μ8 0 (2008 : Int32) ((ga μ8 0 (2008 : Int32)) ||| ((1 : Int32) <<< (nI n &&& (31 : Int32))))) 0 (2000 : Int32) ((ga (sa μ8 0 (2008 : Int32) ((ga μ8 0 (2008 : Int32)) ||| ((1 : Int32) <<< (nI n &&& (31 : Int32))))) 0 (2000 : Int32)) + (1 : Int32)), (1 : Int32)) := by
    intro σ8 μ8 w A8 B8 hA8 T8 t8 Z8 O8 F8 B8' K8
    have g8 : ga μ8 0 (2008 : Int32) = nI (2 ^ n - 1) := by
      have e : nt μ8 2008 = nt μ7 2008 := by rw [F8 _ (by omega) (by omega), if_neg (by omega)]
      have e2 : nt μ7 2008 = nt μ 2008 := by rw [hF _ (by omega) (by omega), if_neg (by omega), if_neg (by omega), if_neg (by omega), if_neg (by omega), if_neg (by omega)]
      exact e.trans (e2.trans hP.2.2.2.2.1.2)
    have g0 : ga (sa μ8 0 (2008 : Int32) (nI (2 ^ n - 1) ||| ((1 : Int32) <<< (nI n &&& (31 : Int32))))) 0 (2000 : Int32) = nI n := by
      have e0 : nt (sa μ8 0 (nI 2008) (nI (2 ^ n - 1) ||| ((1 : Int32) <<< (nI n &&& (31 : Int32))))) 2000 = nt μ8 2000 := nt_ne (by omega) (by omega) (by omega)
      have e : nt μ8 2000 = nt μ7 2000 := by rw [F8 _ (by omega) (by omega), if_neg (by omega)]
      have e2 : nt μ7 2000 = nt μ 2000 := by rw [hF _ (by omega) (by omega), if_neg (by omega), if_neg (by omega), if_neg (by omega), if_neg (by omega), if_neg (by omega)]
      exact e0.trans (e.trans (e2.trans hP.1.2.1))
    rw [g8, g0, nI_1]
    refine TP.r (A' := A8) (B' := B8) (n := n + 1) (d := d) rfl ((K8.s (k := 2008) (by omega) (by omega)).s (k := 2000) (by omega) (by omega)) hA8 (((T8.tb rfl).sa _ _).sa _ _) ?_ Z8 (O8.of rfl rfl rfl)
    rw [psnE_e t8 c1 hn]
    refine hP.psn (nm := nm) (nm' := f_X6_nameHere (f_X6_ahead μ)) (i := i) (q := q) (m := m) (v := v) (w := w) hn hNM (fun k => rfl) (fun k hk x => ?_) (fun p => ⟨rfl, rfl, rfl, rfl, rfl, rfl⟩) (fun p => rfl) (fun k h1 h2 => ?_) (fun p hp => ?_)
    · simp only [List.mem_cons, List.not_mem_nil, or_false, not_or] at hk
      show (if k = 21 then _ else if k = 22 then _ else if k = 23 then _ else if k = 24 then _ else if k = 25 then _ else if k = 26 then _ else σ.2.2.2.1 k) x.toNatClampNeg = σ.2.2.2.1 k x.toNatClampNeg
      rw [if_neg (by omega), if_neg (by omega), if_neg (by omega), if_neg (by omega), if_neg (by omega), if_neg (by omega)]
    · have e1 : nt (sa (sa μ8 0 (nI 2008) (nI (2 ^ n - 1) ||| ((1 : Int32) <<< (nI n &&& (31 : Int32))))) 0 (nI 2000) (nI (n + 1))) k = if k = 2000 then nI (n + 1) else if k = 2008 then nI (2 ^ n - 1) ||| ((1 : Int32) <<< (nI n &&& (31 : Int32))) else nt μ8 k := by
        rw [nt_sa (by omega) (by omega), nt_sa (by omega) (by omega)]
      refine Eq.trans e1 ?_
      rw [F8 k h1 h2, hF k h1 h2, hF 2007 (by omega) (by omega), if_neg (show ¬ 2007 = 2012 + 8 * n + 3 by omega), if_neg (show ¬ 2007 = 2012 + 8 * n + 2 by omega), if_neg (show ¬ 2007 = 2012 + 8 * n + 1 by omega), if_neg (show ¬ 2007 = 2012 + 8 * n by omega), if_neg (show ¬ 2007 = 2012 + 8 * n + 4 by omega)]
    · show gb μ8 1 (24 + nI p) = _
      have e : gb μ8 1 (24 + nI p) = gb μ7 1 (24 + nI p) := by unfold gb; rw [B8']
      rw [e]
      exact hN p hp
  unfold psnG psT
  dsimp only
  rcases th_st T (i := 18) (by omega) (k := 10) rfl with ⟨v1, v2⟩ | ⟨v1, v2, v3, v4⟩
  · rw [v1, v2]
    dsimp only
    rw [if_pos rfl, if_pos rfl]
    refine FIN σ7 μ7 0 A B hA T hτ Z O (fun k h1 h2 => ?_) rfl K
    split
    · rename_i c
      rw [c, if_pos rfl, Int32.or_zero]
    · rfl
  · rw [v1, v2]
    dsimp only
    rw [if_neg (show ¬ (1 : Int32) = 0 by decide), if_neg (show ¬ (1 : Int32) = 0 by decide)]
    obtain ⟨A1, B1, l1, T1, F1, G1⟩ := nx_st T
    refine FIN (f_X7_next σ7) _ 1 A1 B1 (by omega) (T1.sa _ _) (F1.1.trans hτ) (G1.f Z).sa (TO.nx O F1 G1).sa (fun k h1 h2 => ?_) (by rw [sa_nm, G1.1]) ((K.e G1.1).s (k := 2007) (by omega) (by omega))
    have e : nt (sa (f_X6_ahead μ7) 0 (nI 2007) ((ga (f_X6_ahead μ7) 0 (2007 : Int32)) ||| ((1 : Int32) <<< (nI n &&& (31 : Int32))))) k = if k = 2007 then (ga (f_X6_ahead μ7) 0 (2007 : Int32)) ||| ((1 : Int32) <<< (nI n &&& (31 : Int32))) else nt (f_X6_ahead μ7) k := nt_sa (by omega) (by omega)
    refine Eq.trans e ?_
    rw [nt_of G1.1, ga_2 G1.1]
    split
    · rw [if_neg (show ¬ (1 : Int32) = 0 by decide)]
      rfl
    · rfl
theorem ps_tp (h : TK S A B σ μ) (h0 : Z0 μ) (hP : PR n d (ttb σ) μ) (hO : TO σ μ) (hw : gi (own σ) 3 = 1) : TP S A μ (f_X7_person σ) (f_X6_aPerson μ) := by
  have hn6 := hP.1.2.2
  have e0 : ga μ 0 (2000 : Int32) = nI n := hP.1.2.1
  have c1 : σ.2.1 1 = nI n := hP.1.1
  unfold f_X7_person
  rw [aP_e e0, c1]
  by_cases c : nI n = 6
  · rw [if_pos c, if_pos c]
    have t := ft_at h h0 (w10 hw) 6 (by decide)
    exact Or.inl ⟨rfl, t.1, t.2.1, LK.rf.e t.2.2⟩
  · have hn : n < 6 := by
      rcases Nat.lt_or_ge n 6 with z | z
      · exact z
      · exact (c (by rw [show n = 6 by omega]; rfl)).elim
    rw [if_neg c, if_neg c]
    obtain ⟨A1, B1, l1, T1, F1, G1⟩ := nx_st h
    have hAB := tk_lt h (by rw [hw]; decide)
    have P1 : PR n d (ttb (f_X7_next σ)) (f_X6_ahead μ) := by rw [F1.1]; exact hP.of G1.1
    have O1 := hO.nx F1 G1
    have Z1 := G1.f h0
    unfold psn0
    rcases nam_st T1 with ⟨a, b⟩ | ⟨a, c3, b, dd, e⟩
    · rw [b, if_pos a]
      have t := ft_wrong T1 Z1
      rw [if_pos rfl]
      exact Or.inl ⟨rfl, t.1, t.2.1, (LK.rf.e G1.1).e t.2.2⟩
    · have ef := e_named P1.nms.1 P1.nms.2.1 P1.nms.2.2 e
      rw [if_neg (nf b), if_neg (n10 a), dd]
      generalize hnm : (f_X7_name (f_X7_next σ)).1.2 = nm at e ef ⊢
      unfold psnN
      rw [ef]
      rcases find_rng (μ := f_X6_ahead μ) (base := 24) hn6 with r | ⟨p, hp, r⟩
      · rw [r, if_pos (show (-1 : Int32) < 0 by decide), if_pos rfl]
        have l2 := tk_lt T1 (by rw [c3]; decide)
        obtain ⟨A2, B2, l3, T2, F2, G2⟩ := nx_st (T1.sb (24 + nI n) (f_X6_nameHere (f_X6_ahead μ)))
        have T3 := ((T2.sa (nI (2012 + 8 * n + 1)) 1).sa (nI (2012 + 8 * n + 3)) 999).sa (nI (2012 + 8 * n + 4)) (-1)
        have Z3 : Z0 (sa (sa (sa (f_X6_ahead (sb (f_X6_ahead μ) 1 (24 + nI n) (f_X6_nameHere (f_X6_ahead μ)))) 0 (nI (2012 + 8 * n + 1)) 1) 0 (nI (2012 + 8 * n + 3)) 999) 0 (nI (2012 + 8 * n + 4)) (-1)) := (G2.f Z1.sb).sa.sa.sa
        have O3 : TO (f_X7_next (f_X7_next σ)) (sa (sa (sa (f_X6_ahead (sb (f_X6_ahead μ) 1 (24 + nI n) (f_X6_nameHere (f_X6_ahead μ)))) 0 (nI (2012 + 8 * n + 1)) 1) 0 (nI (2012 + 8 * n + 3)) 999) 0 (nI (2012 + 8 * n + 4)) (-1)) := (TO.nx (μ := sb (f_X6_ahead μ) 1 (24 + nI n) (f_X6_nameHere (f_X6_ahead μ))) O1.sb F2 G2).sa.sa.sa
        have hτ : (f_X7_next (f_X7_next σ)).2 = σ.2 := (show ttb (f_X7_next (f_X7_next σ)) = ttb σ from F2.1.trans F1.1)
        have N3 : ∀ k, k < 100000 → nt (sa (sa (sa (f_X6_ahead (sb (f_X6_ahead μ) 1 (24 + nI n) (f_X6_nameHere (f_X6_ahead μ)))) 0 (nI (2012 + 8 * n + 1)) 1) 0 (nI (2012 + 8 * n + 3)) 999) 0 (nI (2012 + 8 * n + 4)) (-1)) k = if k = 2012 + 8 * n + 4 then -1 else if k = 2012 + 8 * n + 3 then 999 else if k = 2012 + 8 * n + 1 then 1 else nt μ k := fun k hk => by
          have e9 : nt (f_X6_ahead (sb (f_X6_ahead μ) 1 (24 + nI n) (f_X6_nameHere (f_X6_ahead μ)))) k = nt μ k := by
            rw [nt_of G2.1, nt_sb, nt_of G1.1]
          rw [nt_sa hk (by omega), nt_sa hk (by omega), nt_sa hk (by omega), e9]
        have B3 : (sa (sa (sa (f_X6_ahead (sb (f_X6_ahead μ) 1 (24 + nI n) (f_X6_nameHere (f_X6_ahead μ)))) 0 (nI (2012 + 8 * n + 1)) 1) 0 (nI (2012 + 8 * n + 3)) 999) 0 (nI (2012 + 8 * n + 4)) (-1)).2.2.2 = (sb μ 1 (24 + nI n) (f_X6_nameHere (f_X6_ahead μ))).2.2.2 := by
          rw [sa_nm, sa_nm, sa_nm, G2.1, sb_2 G1.1]
        have K3 : LK μ (sa (sa (sa (f_X6_ahead (sb (f_X6_ahead μ) 1 (24 + nI n) (f_X6_nameHere (f_X6_ahead μ)))) 0 (nI (2012 + 8 * n + 1)) 1) 0 (nI (2012 + 8 * n + 3)) 999) 0 (nI (2012 + 8 * n + 4)) (-1)) := by
          have q1 : LK μ (sb (f_X6_ahead μ) 1 (24 + nI n) (f_X6_nameHere (f_X6_ahead μ))) := by
            rw [show (24 : Int32) + nI n = nI (24 + n) from nI_add 24 n]
            exact (LK.rf.e G1.1).b (by omega) (by omega)
          exact (((q1.e G2.1).s (by omega) (by omega)).s (by omega) (by omega)).s (by omega) (by omega)
        generalize sa (sa (sa (f_X6_ahead (sb (f_X6_ahead μ) 1 (24 + nI n) (f_X6_nameHere (f_X6_ahead μ)))) 0 (nI (2012 + 8 * n + 1)) 1) 0 (nI (2012 + 8 * n + 3)) 999) 0 (nI (2012 + 8 * n + 4)) (-1) = μ3 at T3 Z3 O3 N3 B3 K3 ⊢
        generalize f_X7_next (f_X7_next σ) = σ3 at T3 O3 hτ ⊢
        have z0 := hP.2.2.2.2.2.2.2.1 n (Nat.le_refl _) hn
        rw [psS_e]
        unfold psnI psB
        rcases pe_st T3 Z3 (i := 14) (by omega) (k := 6) rfl 0 16 0 (2012 + 8 * n) (by omega) (by rw [N3 _ (by omega), if_neg (by omega), if_neg (by omega), if_neg (by omega)]; exact z0.1) with ⟨w1, w2, w3⟩ | ⟨w1, w2, A4, B4, i, l4, ei, T4, F4, N4, BB4, I4⟩
        · rw [if_pos w1, if_pos w3.1]
          exact TP.l w2 rfl (K3.e w3.2)
        rw [if_neg (nf w1), if_neg (n10 w2), ei]
        have Z4 : Z0 _ := ⟨(I4 18 (by decide)).trans Z3.1, (I4 17 (by decide)).trans Z3.2⟩
        have K4 : LK μ (thN μ3 6 (nI (2012 + 8 * n)) 0 16).1 := K3.tr ⟨fun x hx => by rw [N4 x (by omega), if_neg (by omega)], fun x hx => by unfold gb; rw [BB4]⟩
        have O4 : TO (f_X7_perhaps σ3 14 0 16 0).1.1 (thN μ3 6 (nI (2012 + 8 * n)) 0 16).1 := O3.of (F4.2.1 6 (by decide)) (F4.2.1 7 (by decide)) (I4 20 (by decide))
        have t4 : (f_X7_perhaps σ3 14 0 16 0).1.1.2 = σ.2 := (show ttb _ = ttb σ3 from F4.1).trans hτ
        generalize (f_X7_perhaps σ3 14 0 16 0).1.1 = σ4 at T4 O4 t4 ⊢
        generalize (thN μ3 6 (nI (2012 + 8 * n)) 0 16).1 = μ4 at T4 Z4 O4 N4 BB4 K4 ⊢
        rw [psS_e]
        unfold psnQ psB
        rcases pe_st T4 Z4 (i := 13) (by omega) (k := 7) rfl 0 20 1 (2012 + 8 * n + 1) (by omega) (by rw [N4 _ (by omega), if_neg (by omega), N3 _ (by omega), if_neg (by omega), if_neg (by omega), if_pos rfl]) with ⟨w1, w2, w3⟩ | ⟨w1, w2, A5, B5, q, l5, eq, T5, F5, N5, BB5, I5⟩
        · rw [if_pos w1, if_pos w3.1]
          exact TP.l w2 rfl (K4.e w3.2)
        rw [if_neg (nf w1), if_neg (n10 w2), eq]
        have Z5 : Z0 _ := ⟨(I5 18 (by decide)).trans Z4.1, (I5 17 (by decide)).trans Z4.2⟩
        have K5 : LK μ (thN μ4 7 (nI (2012 + 8 * n + 1)) 0 20).1 := K4.tr ⟨fun x hx => by rw [N5 x (by omega), if_neg (by omega)], fun x hx => by unfold gb; rw [BB5]⟩
        have O5 : TO (f_X7_perhaps σ4 13 0 20 1).1.1 (thN μ4 7 (nI (2012 + 8 * n + 1)) 0 20).1 := O4.of (F5.2.1 6 (by decide)) (F5.2.1 7 (by decide)) (I5 20 (by decide))
        have t5 : (f_X7_perhaps σ4 13 0 20 1).1.1.2 = σ.2 := (show ttb _ = ttb σ4 from F5.1).trans t4
        generalize (f_X7_perhaps σ4 13 0 20 1).1.1 = σ5 at T5 O5 t5 ⊢
        generalize (thN μ4 7 (nI (2012 + 8 * n + 1)) 0 20).1 = μ5 at T5 Z5 O5 N5 BB5 K5 ⊢
        rw [psS_e]
        unfold psnM psB
        rcases pe_st T5 Z5 (i := 16) (by omega) (k := 8) rfl 0 99 0 (2012 + 8 * n + 2) (by omega) (by rw [N5 _ (by omega), if_neg (by omega), N4 _ (by omega), if_neg (by omega), N3 _ (by omega), if_neg (by omega), if_neg (by omega), if_neg (by omega)]; exact z0.2) with ⟨w1, w2, w3⟩ | ⟨w1, w2, A6, B6, m, l6, em, T6, F6, N6, BB6, I6⟩
        · rw [if_pos w1, if_pos w3.1]
          exact TP.l w2 rfl (K5.e w3.2)
        rw [if_neg (nf w1), if_neg (n10 w2), em]
        have Z6 : Z0 _ := ⟨(I6 18 (by decide)).trans Z5.1, (I6 17 (by decide)).trans Z5.2⟩
        have K6 : LK μ (thN μ5 8 (nI (2012 + 8 * n + 2)) 0 99).1 := K5.tr ⟨fun x hx => by rw [N6 x (by omega), if_neg (by omega)], fun x hx => by unfold gb; rw [BB6]⟩
        have O6 : TO (f_X7_perhaps σ5 16 0 99 0).1.1 (thN μ5 8 (nI (2012 + 8 * n + 2)) 0 99).1 := O5.of (F6.2.1 6 (by decide)) (F6.2.1 7 (by decide)) (I6 20 (by decide))
        have t6 : (f_X7_perhaps σ5 16 0 99 0).1.1.2 = σ.2 := (show ttb _ = ttb σ5 from F6.1).trans t5
        generalize (f_X7_perhaps σ5 16 0 99 0).1.1 = σ6 at T6 O6 t6 ⊢
        generalize (thN μ5 8 (nI (2012 + 8 * n + 2)) 0 99).1 = μ6 at T6 Z6 O6 N6 BB6 K6 ⊢
        rw [psS_e]
        unfold psnV psB
        rcases pe_st T6 Z6 (i := 17) (by omega) (k := 9) rfl 0 999 999 (2012 + 8 * n + 3) (by omega) (by rw [N6 _ (by omega), if_neg (by omega), N5 _ (by omega), if_neg (by omega), N4 _ (by omega), if_neg (by omega), N3 _ (by omega), if_neg (by omega), if_pos rfl]) with ⟨w1, w2, w3⟩ | ⟨w1, w2, A7, B7, v, l7, ev, T7, F7, N7, BB7, I7⟩
        · rw [if_pos w1, if_pos w3.1]
          exact TP.l w2 rfl (K6.e w3.2)
        rw [if_neg (nf w1), if_neg (n10 w2), ev]
        have Z7 : Z0 _ := ⟨(I7 18 (by decide)).trans Z6.1, (I7 17 (by decide)).trans Z6.2⟩
        have K7 : LK μ (thN μ6 9 (nI (2012 + 8 * n + 3)) 0 999).1 := K6.tr ⟨fun x hx => by rw [N7 x (by omega), if_neg (by omega)], fun x hx => by unfold gb; rw [BB7]⟩
        have O7 : TO (f_X7_perhaps σ6 17 0 999 999).1.1 (thN μ6 9 (nI (2012 + 8 * n + 3)) 0 999).1 := O6.of (F7.2.1 6 (by decide)) (F7.2.1 7 (by decide)) (I7 20 (by decide))
        have t7 : (f_X7_perhaps σ6 17 0 999 999).1.1.2 = σ.2 := (show ttb _ = ttb σ6 from F7.1).trans t6
        generalize (f_X7_perhaps σ6 17 0 999 999).1.1 = σ7 at T7 O7 t7 ⊢
        generalize (thN μ6 9 (nI (2012 + 8 * n + 3)) 0 999).1 = μ7 at T7 Z7 O7 N7 BB7 K7 ⊢
        refine ps_end T7 (A0 := A) (by omega) Z7 O7 t7 hP hn e (fun k h1 h2 => ?_) (fun p hp => ?_) K7
        · rw [N7 k (by omega), N6 k (by omega), N5 k (by omega), N4 k (by omega), N3 k (by omega)]
          repeat' split
          all_goals first | rfl | (exfalso; omega)
        · have e8 : gb μ7 1 (24 + nI p) = gb (sb μ 1 (24 + nI n) (f_X6_nameHere (f_X6_ahead μ))) 1 (24 + nI p) := by
            unfold gb
            rw [BB7, BB6, BB5, BB4, B3]
          have e24 : ∀ x, (24 : Int32) + nI x = nI (24 + x) := fun x => nI_add 24 x
          rw [e8, e24, e24]
          by_cases z : p = n
          · rw [if_pos z, z]
            exact gb_sb_eq
          · rw [if_neg z]
            exact gb_sb_ne (nI_toInt (by omega)) (nI_toInt (by omega)) (by omega)
      · rw [r, if_neg (nI_pos (by omega)), if_neg (nI_m1 (by omega))]
        have t := ft_at T1 Z1 (w10 c3) 3 (by decide)
        exact Or.inl ⟨rfl, t.1, t.2.1, (LK.rf.e G1.1).e t.2.2⟩
/-- a statement of a table, both readers: to its end -/
theorem st_tp (h : TK S A B σ μ) (h0 : Z0 μ) (hP : PR n d (ttb σ) μ) (hO : TO σ μ) (σ1 : MS × MS) (b : Bool) (hs : StK σ σ1 b) :
    LK μ (f_X6_tablePart μ).1 ∧ ((b = true ∧ FT σ1 (f_X6_tablePart μ).1 ∧ (f_X6_tablePart μ).2 = 0) ∨
    (b = false ∧ (((f_X7_close σ1).2 = true ∧ FT (f_X7_close σ1).1 (f_X6_tablePart μ).1 ∧ (f_X6_tablePart μ).2 = 0) ∨ ((f_X7_close σ1).2 = false ∧ (f_X6_tablePart μ).2 = 1 ∧ ∃ A' B' n' d', A < A' ∧ TK S A' B' (f_X7_close σ1).1 (f_X6_tablePart μ).1 ∧ PR n' d' (ttb (f_X7_close σ1).1) (f_X6_tablePart μ).1 ∧ Z0 (f_X6_tablePart μ).1 ∧ TO (f_X7_close σ1).1 (f_X6_tablePart μ).1)))) := by
  have w1 : f_X7_isWord σ 15 = 0 ↔ ¬ f_X6_inWords μ = 0 := (wd h (i := 15) (by omega)).1
  have w2 : f_X7_isWord σ 19 = 0 ↔ ¬ f_X6_inWords μ = 1 := (wd h (i := 19) (by omega)).1
  have w3 : f_X7_isWord σ 20 = 0 ↔ ¬ f_X6_inWords μ = 2 := (wd h (i := 20) (by omega)).1
  have w4 : f_X7_isWord σ 7 = 0 ↔ ¬ f_X6_inWords μ = 3 := (wd h (i := 7) (by omega)).1
  have w5 : f_X7_isWord σ 22 = 0 ↔ ¬ f_X6_inWords μ = 4 := (wd h (i := 22) (by omega)).1
  have w6 : f_X7_isWord σ 23 = 0 ↔ ¬ f_X6_inWords μ = 5 := (wd h (i := 23) (by omega)).1
  have W : ∀ k : Int32, f_X6_inWords μ = k → ¬ k = -1 → gi (own σ) 3 = 1 := fun k hk hk1 => by
    rcases inW_rng h with q | ⟨w, -, -, q, -⟩
    · exact (hk1 (hk.symm.trans q)).elim
    · exact q
  -- behind a part
  have FIN : ∀ (y : MS × Int32), TP S A μ (σ1, b) y → f_X6_tablePart μ = (if y.2 = 0 then (y.1, 0) else if (f_X6_wantSign y.1 59).2 = 0 then ((f_X6_wantSign y.1 59).1, 0) else ((f_X6_wantSign y.1 59).1, 1)) →
      LK μ (f_X6_tablePart μ).1 ∧ ((b = true ∧ FT σ1 (f_X6_tablePart μ).1 ∧ (f_X6_tablePart μ).2 = 0) ∨
      (b = false ∧ (((f_X7_close σ1).2 = true ∧ FT (f_X7_close σ1).1 (f_X6_tablePart μ).1 ∧ (f_X6_tablePart μ).2 = 0) ∨ ((f_X7_close σ1).2 = false ∧ (f_X6_tablePart μ).2 = 1 ∧ ∃ A' B' n' d', A < A' ∧ TK S A' B' (f_X7_close σ1).1 (f_X6_tablePart μ).1 ∧ PR n' d' (ttb (f_X7_close σ1).1) (f_X6_tablePart μ).1 ∧ Z0 (f_X6_tablePart μ).1 ∧ TO (f_X7_close σ1).1 (f_X6_tablePart μ).1)))) := by
    intro y hy he
    rw [he]
    rcases hy with ⟨a1, a2, a3, a4⟩ | ⟨a1, a2, a4, A1, B1, n1, d1, l1, T1, P1, Z1, O1⟩
    · rw [if_pos a3]
      exact ⟨a4, Or.inl ⟨a1, a2, rfl⟩⟩
    · rw [if_neg (n10 a2)]
      rcases cl_st T1 Z1 with ⟨c1, c2, c3⟩ | ⟨c1, c2, A2, B2, l2, T2, F2, G2⟩
      · rw [if_pos c3.1]
        exact ⟨a4.e c3.2, Or.inr ⟨a1, Or.inl ⟨c1, c2, rfl⟩⟩⟩
      · rw [if_neg (n10 c2)]
        exact ⟨a4.e G2.1, Or.inr ⟨a1, Or.inr ⟨c1, rfl, A2, B2, n1, d1, by omega, T2, by rw [F2.1]; exact P1.of G2.1, G2.f Z1, O1.nx F2 G2⟩⟩⟩
  unfold StK at hs
  by_cases c1 : f_X6_inWords μ = 0
  · rw [if_neg (fun q => w1.mp q c1)] at hs
    refine FIN (f_X6_aPerson μ) (by rw [hs.1, hs.2]; exact ps_tp h h0 hP hO (W 0 c1 (by decide))) ?_
    unfold f_X6_tablePart
    dsimp only
    rw [if_pos c1]
  rw [if_pos (w1.mpr c1)] at hs
  by_cases c2 : f_X6_inWords μ = 1
  · rw [if_neg (fun q => w2.mp q c2)] at hs
    refine FIN (f_X6_aCouple μ) (by rw [hs.1, hs.2]; exact cp_tp h h0 hP hO (W 1 c2 (by decide))) ?_
    unfold f_X6_tablePart
    dsimp only
    rw [if_neg c1, if_pos c2]
  rw [if_pos (w2.mpr c2)] at hs
  by_cases c3 : f_X6_inWords μ = 2
  · rw [if_neg (fun q => w3.mp q c3)] at hs
    refine FIN (f_X6_aDish μ) (ds_tp h h0 hP hO (W 2 c3 (by decide)) (σ1, b) hs) ?_
    unfold f_X6_tablePart
    dsimp only
    rw [if_neg c1, if_neg c2, if_pos c3]
  rw [if_pos (w3.mpr c3)] at hs
  by_cases c4 : f_X6_inWords μ = 3
  · rw [if_neg (fun q => w4.mp q c4)] at hs
    refine FIN (f_X6_aDebt μ) (by rw [hs.1, hs.2]; exact ow_tp h h0 hP hO) ?_
    unfold f_X6_tablePart
    dsimp only
    rw [if_neg c1, if_neg c2, if_neg c3, if_pos c4]
  rw [if_pos (w4.mpr c4)] at hs
  by_cases c5 : f_X6_inWords μ = 4
  · rw [if_neg (fun q => w5.mp q c5)] at hs
    refine FIN (f_X6_once μ 4) (by rw [hs.1, hs.2]; exact sp_tp h h0 hP hO (W 4 c5 (by decide))) ?_
    unfold f_X6_tablePart
    dsimp only
    rw [if_neg c1, if_neg c2, if_neg c3, if_neg c4, if_pos c5]
  rw [if_pos (w5.mpr c5)] at hs
  by_cases c6 : f_X6_inWords μ = 5
  · rw [if_neg (fun q => w6.mp q c6)] at hs
    refine FIN (f_X6_once μ 5) (by rw [hs.1, hs.2]; exact lw_tp h h0 hP hO (W 5 c6 (by decide))) ?_
    unfold f_X6_tablePart
    dsimp only
    rw [if_neg c1, if_neg c2, if_neg c3, if_neg c4, if_neg c5, if_pos c6]
  rw [if_pos (w6.mpr c6)] at hs
  have et : f_X6_tablePart μ = f_X6_fails μ 2 := by
    unfold f_X6_tablePart
    dsimp only
    rw [if_neg c1, if_neg c2, if_neg c3, if_neg c4, if_neg c5, if_neg c6]
  have t := ft_wrong h h0
  rw [et, hs.2]
  exact ⟨LK.rf.e t.2.2, Or.inl ⟨hs.1, t.1, t.2.1⟩⟩
/-- the whole text, from one of its statements on -/
theorem tb_loop : ∀ (N : Nat) (A B n d k : Nat) (σ σ2 : MS × MS) (μ : MS) (b : Bool), TK S A B σ μ → Z0 μ → PR n d (ttb σ) μ → TO σ μ → TbN N σ σ2 b → S < k + A →
    (LK μ (f_X6_table_L31 k 1 μ).2 ∧ gi (f_X6_table_L31 k 1 μ).2 10 = gi μ 10) ∧ ((b = true ∧ FT σ2 (f_X6_table_L31 k 1 μ).2) ∨ (b = false ∧ ∃ (n' d' : Nat) (τ : MS), Z0 (f_X6_table_L31 k 1 μ).2 ∧ PR n' d' τ (f_X6_table_L31 k 1 μ).2 ∧ ttb σ2 = si τ 8 (nI (2 ^ n' - 1)))) := by
  intro N
  induction N with
  | zero => intro A B n d k σ σ2 μ b _ _ _ _ hb; exact hb.elim
  | succ N ih =>
    intro A B n d k σ σ2 μ b h h0 hP hO hb hk
    have hAS := h.2.2.2.1
    obtain ⟨k, rfl⟩ : ∃ k', k = k' + 1 := ⟨k - 1, by omega⟩
    rw [f_X6_table_L31, if_neg (show ¬ (1 : Int32) = 0 by decide)]
    dsimp only
    have Z : ∀ (k : Nat) (μ : MS), (f_X6_table_L31 k 0 μ).2 = μ := fun k μ => by
      cases k with
      | zero => rfl
      | succ k => rw [f_X6_table_L31, if_pos rfl]
    rcases hb with ⟨b1, b2, b3⟩ | ⟨b1, b2, b3⟩ | ⟨b1, σ1, b2, b3⟩
    · rw [if_pos ((tk_s0 h).mp b1)]
      refine ⟨⟨LK.rf, rfl⟩, Or.inr ⟨b3, n, d, ttb σ, h0, hP, ?_⟩⟩
      rw [b2]
      show si (ttb σ) 8 (((1 : Int32) <<< (gi (ttb σ) 1 &&& 31)) - 1) = _
      rw [hP.1.1, in_all n hP.1.2.2]
    · rw [if_neg (fun q => b1 ((tk_s0 h).mpr q))]
      rcases st_tp h h0 hP hO σ2 true b2 with ⟨K, ⟨-, c2, c3⟩ | ⟨c1, -⟩⟩
      · rw [c3, Z]
        exact ⟨⟨K, g_pt hP.1.2.1⟩, Or.inl ⟨b3, c2⟩⟩
      · exact absurd c1 (by decide)
    · rw [if_neg (fun q => b1 ((tk_s0 h).mpr q))]
      rcases st_tp h h0 hP hO σ1 false b2 with ⟨K, ⟨c1, -⟩ | ⟨-, ⟨c1, c2, c3⟩ | ⟨c1, c2, A', B', n', d', l, T, P, Z', O⟩⟩⟩
      · exact absurd c1 (by decide)
      · rcases b3 with ⟨e1, e2, e3⟩ | ⟨e1, -⟩
        · rw [c3, Z, e2]
          exact ⟨⟨K, g_pt hP.1.2.1⟩, Or.inl ⟨e3, c2⟩⟩
        · rw [c1] at e1; exact absurd e1 (by decide)
      · rcases b3 with ⟨e1, -⟩ | ⟨-, e2⟩
        · rw [c1] at e1; exact absurd e1 (by decide)
        · rw [c2]
          have q := ih A' B' n' d' k _ σ2 _ b T Z' P O e2 (by omega)
          exact ⟨⟨K.tr q.1.1, q.1.2.trans (g_pt hP.1.2.1)⟩, q.2⟩
end TRS
