/-! TEXTS: split, law, a person; a table's parts -/
set_option maxRecDepth 100000
section TQS
variable {S A B n d : Nat} {σ : MS × MS} {μ : MS}
theorem spl_e (h : TK S A B σ μ) : f_X7_splits σ = if f_X6_inWords μ = 12 then 0 else if f_X6_inWords μ = 13 then 1 else if f_X6_inWords μ = 14 then 2 else -1 := by
  have w1 : f_X7_isWord σ 9 = 0 ↔ ¬ f_X6_inWords μ = 12 := (wd h (i := 9) (by omega)).1
  have w2 : f_X7_isWord σ 10 = 0 ↔ ¬ f_X6_inWords μ = 13 := (wd h (i := 10) (by omega)).1
  have w3 : f_X7_isWord σ 11 = 0 ↔ ¬ f_X6_inWords μ = 14 := (wd h (i := 11) (by omega)).1
  unfold f_X7_splits
  dsimp only
  by_cases c1 : f_X6_inWords μ = 12
  · rw [if_pos c1, if_neg (fun q => w1.mp q c1)]
  · rw [if_neg c1, if_pos (w1.mpr c1)]
    by_cases c2 : f_X6_inWords μ = 13
    · rw [if_pos c2, if_neg (fun q => w2.mp q c2)]
    · rw [if_neg c2, if_pos (w2.mpr c2)]
      by_cases c3 : f_X6_inWords μ = 14
      · rw [if_pos c3, if_neg (fun q => w3.mp q c3)]
      · rw [if_neg c3, if_pos (w3.mpr c3)]
theorem lws_e (h : TK S A B σ μ) : f_X7_laws σ = if f_X6_inWords μ = 15 then 0 else if f_X6_inWords μ = 16 then 1 else if f_X6_inWords μ = 7 then 2 else if f_X6_inWords μ = 6 then 3 else -1 := by
  have w1 : f_X7_isWord σ 8 = 0 ↔ ¬ f_X6_inWords μ = 15 := (wd h (i := 8) (by omega)).1
  have w2 : f_X7_isWord σ 12 = 0 ↔ ¬ f_X6_inWords μ = 16 := (wd h (i := 12) (by omega)).1
  have w3 : f_X7_isWord σ 13 = 0 ↔ ¬ f_X6_inWords μ = 7 := (wd h (i := 13) (by omega)).1
  have w4 : f_X7_isWord σ 14 = 0 ↔ ¬ f_X6_inWords μ = 6 := (wd h (i := 14) (by omega)).1
  unfold f_X7_laws
  dsimp only
  by_cases c1 : f_X6_inWords μ = 15
  · rw [if_pos c1, if_neg (fun q => w1.mp q c1)]
  · rw [if_neg c1, if_pos (w1.mpr c1)]
    by_cases c2 : f_X6_inWords μ = 16
    · rw [if_pos c2, if_neg (fun q => w2.mp q c2)]
    · rw [if_neg c2, if_pos (w2.mpr c2)]
      by_cases c3 : f_X6_inWords μ = 7
      · rw [if_pos c3, if_neg (fun q => w3.mp q c3)]
      · rw [if_neg c3, if_pos (w3.mpr c3)]
        by_cases c4 : f_X6_inWords μ = 6
        · rw [if_pos c4, if_neg (fun q => w4.mp q c4)]
        · rw [if_neg c4, if_pos (w4.mpr c4)]
theorem spl_v : f_X7_splits σ = -1 ∨ 0 ≤ f_X7_splits σ := by
  unfold f_X7_splits
  dsimp only
  repeat' split
  all_goals first | exact Or.inl rfl | exact Or.inr (by decide)
theorem lws_v : f_X7_laws σ = -1 ∨ 0 ≤ f_X7_laws σ := by
  unfold f_X7_laws
  dsimp only
  repeat' split
  all_goals first | exact Or.inl rfl | exact Or.inr (by decide)
theorem on_4 {s l : Nat} (hs : s ≤ 1) (hl : l ≤ 1) : (((nI (16 * s + 32 * l)) >>> ((4 : Int32) &&& (31 : Int32))) &&& (1 : Int32) = 1 ↔ s = 1) ∧ (nI (16 * s + 32 * l)) ||| ((1 : Int32) <<< ((4 : Int32) &&& (31 : Int32))) = nI (16 * 1 + 32 * l) := by
  rcases (show s = 0 ∨ s = 1 by omega) with rfl | rfl <;> rcases (show l = 0 ∨ l = 1 by omega) with rfl | rfl <;> decide
theorem on_5 {s l : Nat} (hs : s ≤ 1) (hl : l ≤ 1) : (((nI (16 * s + 32 * l)) >>> ((5 : Int32) &&& (31 : Int32))) &&& (1 : Int32) = 1 ↔ l = 1) ∧ (nI (16 * s + 32 * l)) ||| ((1 : Int32) <<< ((5 : Int32) &&& (31 : Int32))) = nI (16 * s + 32 * 1) := by
  rcases (show s = 0 ∨ s = 1 by omega) with rfl | rfl <;> rcases (show l = 0 ∨ l = 1 by omega) with rfl | rfl <;> decide
theorem sp_tp (h : TK S A B σ μ) (h0 : Z0 μ) (hP : PR n d (ttb σ) μ) (hO : TO σ μ) (hw : gi (own σ) 3 = 1) : TP S A μ ((if (f_X7_split σ).2 = true then (f_X7_split σ).1.1 else tsi (f_X7_split σ).1.1 4 (f_X7_split σ).1.2), (f_X7_split σ).2) (f_X6_once μ 4) := by
  obtain ⟨s, l, hs, hl, o6, o7, o20⟩ := hO
  obtain ⟨q1, q2⟩ := on_4 hs hl
  unfold f_X6_once
  dsimp only
  rw [o20, q2]
  by_cases c : s = 1
  · rw [if_pos (q1.mpr c)]
    have t := ft_at h h0 (w10 hw) 5 (by decide)
    have e1 : f_X7_split σ = ((f_X2_at σ 5 (gi (own σ) 1), 0), true) := by
      unfold f_X7_split
      rw [if_neg (by rw [o6, c]; decide)]
    rw [e1]
    exact Or.inl ⟨rfl, t.1, t.2.1, LK.rf.e t.2.2⟩
  · have hs0 : s = 0 := by omega
    rw [if_neg (fun z => c (q1.mp z))]
    have T0 : TK S A B (lsi σ 6 1) (si μ 20 (nI (16 * 1 + 32 * l))) := (h.osi (by decide)).msi (by decide)
    obtain ⟨A1, B1, l1, T1, F1, G1⟩ := nx_st T0
    have hAB := tk_lt h (by rw [hw]; decide)
    have Z1 : Z0 (f_X6_ahead (si μ 20 (nI (16 * 1 + 32 * l)))) := G1.f h0
    have P1 : PR n d (ttb (f_X7_next (lsi σ 6 1))) (f_X6_ahead (si μ 20 (nI (16 * 1 + 32 * l)))) := by rw [F1.1]; exact hP.of G1.1
    have O1 : TO (f_X7_next (lsi σ 6 1)) (f_X6_ahead (si μ 20 (nI (16 * 1 + 32 * l)))) := ⟨1, l, by omega, hl, (F1.2.1 6 (by decide)).trans rfl, (F1.2.1 7 (by decide)).trans o7, (G1.2 20 (by decide)).trans rfl⟩
    have e1 : f_X7_split σ = if 0 ≤ f_X7_splits (f_X7_next (lsi σ 6 1)) then ((f_X7_next (f_X7_next (lsi σ 6 1)), f_X7_splits (f_X7_next (lsi σ 6 1))), false) else ((f_X7_wrong (f_X7_next (lsi σ 6 1)), 0), true) := by
      unfold f_X7_split
      rw [if_pos (by rw [o6, hs0]; rfl)]
    have es := spl_e T1
    have ev := spl_v (σ := f_X7_next (lsi σ 6 1))
    rw [e1, if_pos (rfl : (4 : Int32) = 4), if_pos (rfl : (4 : Int32) = 4), ← es]
    generalize f_X7_splits (f_X7_next (lsi σ 6 1)) = v at ev ⊢
    rcases ev with z | z
    · rw [if_pos z, if_neg (show ¬ (0 : Int32) ≤ v by rw [z]; decide)]
      have t := ft_wrong T1 Z1
      show TP S A μ (f_X7_wrong _, true) _
      exact TP.l t.1 t.2.1 ((LK.i.e G1.1).e t.2.2)
    · have zn : ¬ v = -1 := fun q => by rw [q] at z; exact absurd z (by decide)
      rw [if_neg zn, if_pos z]
      obtain ⟨A2, B2, l2, T2, F2, G2⟩ := nx_st (T1.sa ((2000 : Int32) + 3) v)
      have hA1 := T1.2.2.2.1.1
      show TP S A μ (tsi (f_X7_next (f_X7_next (lsi σ 6 1))) 4 v, false) _
      refine TP.r (A' := A2) (B' := B2) (n := n) (d := d) rfl (((LK.i.e G1.1).s (k := 2003) (v := v) (by omega) (by omega)).e G2.1) (by omega) T2.tsi ?_ (G2.f Z1.sa) ?_
      · rw [ttb_tsi]
        rw [F2.1]
        exact (P1.num (k := 4) (v := v) (Or.inr (Or.inl rfl))).of G2.1
      · exact (TO.nx (μ := sa (f_X6_ahead (si μ 20 (nI (16 * 1 + 32 * l)))) 0 ((2000 : Int32) + 3) v) O1.sa F2 G2).tsi
theorem lw_tp (h : TK S A B σ μ) (h0 : Z0 μ) (hP : PR n d (ttb σ) μ) (hO : TO σ μ) (hw : gi (own σ) 3 = 1) : TP S A μ ((if (f_X7_law σ).2 = true then (f_X7_law σ).1.1 else tsi (f_X7_law σ).1.1 5 (f_X7_law σ).1.2), (f_X7_law σ).2) (f_X6_once μ 5) := by
  obtain ⟨s, l, hs, hl, o6, o7, o20⟩ := hO
  obtain ⟨q1, q2⟩ := on_5 hs hl
  unfold f_X6_once
  dsimp only
  rw [o20, q2]
  by_cases c : l = 1
  · rw [if_pos (q1.mpr c)]
    have t := ft_at h h0 (w10 hw) 5 (by decide)
    have e1 : f_X7_law σ = ((f_X2_at σ 5 (gi (own σ) 1), 0), true) := by
      unfold f_X7_law
      rw [if_neg (by rw [o7, c]; decide)]
    rw [e1]
    exact Or.inl ⟨rfl, t.1, t.2.1, LK.rf.e t.2.2⟩
  · have hs0 : l = 0 := by omega
    rw [if_neg (fun z => c (q1.mp z))]
    have T0 : TK S A B (lsi σ 7 1) (si μ 20 (nI (16 * s + 32 * 1))) := (h.osi (by decide)).msi (by decide)
    obtain ⟨A1, B1, l1, T1, F1, G1⟩ := nx_st T0
    have hAB := tk_lt h (by rw [hw]; decide)
    have Z1 : Z0 (f_X6_ahead (si μ 20 (nI (16 * s + 32 * 1)))) := G1.f h0
    have P1 : PR n d (ttb (f_X7_next (lsi σ 7 1))) (f_X6_ahead (si μ 20 (nI (16 * s + 32 * 1)))) := by rw [F1.1]; exact hP.of G1.1
    have O1 : TO (f_X7_next (lsi σ 7 1)) (f_X6_ahead (si μ 20 (nI (16 * s + 32 * 1)))) := ⟨s, 1, hs, by omega, (F1.2.1 6 (by decide)).trans o6, (F1.2.1 7 (by decide)).trans rfl, (G1.2 20 (by decide)).trans rfl⟩
    have e1 : f_X7_law σ = if 0 ≤ f_X7_laws (f_X7_next (lsi σ 7 1)) then ((f_X7_next (f_X7_next (lsi σ 7 1)), f_X7_laws (f_X7_next (lsi σ 7 1))), false) else ((f_X7_wrong (f_X7_next (lsi σ 7 1)), 0), true) := by
      unfold f_X7_law
      rw [if_pos (by rw [o7, hs0]; rfl)]
    have es := lws_e T1
    have ev := lws_v (σ := f_X7_next (lsi σ 7 1))
    rw [e1, if_neg (show ¬ (5 : Int32) = 4 by decide), if_neg (show ¬ (5 : Int32) = 4 by decide), ← es]
    generalize f_X7_laws (f_X7_next (lsi σ 7 1)) = v at ev ⊢
    rcases ev with z | z
    · rw [if_pos z, if_neg (show ¬ (0 : Int32) ≤ v by rw [z]; decide)]
      have t := ft_wrong T1 Z1
      show TP S A μ (f_X7_wrong _, true) _
      exact TP.l t.1 t.2.1 ((LK.i.e G1.1).e t.2.2)
    · have zn : ¬ v = -1 := fun q => by rw [q] at z; exact absurd z (by decide)
      rw [if_neg zn, if_pos z]
      obtain ⟨A2, B2, l2, T2, F2, G2⟩ := nx_st (T1.sa ((2000 : Int32) + 4) v)
      have hA1 := T1.2.2.2.1.1
      show TP S A μ (tsi (f_X7_next (f_X7_next (lsi σ 7 1))) 5 v, false) _
      refine TP.r (A' := A2) (B' := B2) (n := n) (d := d) rfl (((LK.i.e G1.1).s (k := 2004) (v := v) (by omega) (by omega)).e G2.1) (by omega) T2.tsi ?_ (G2.f Z1.sa) ?_
      · rw [ttb_tsi]
        rw [F2.1]
        exact (P1.num (k := 5) (v := v) (Or.inr (Or.inr rfl))).of G2.1
      · exact (TO.nx (μ := sa (f_X6_ahead (si μ 20 (nI (16 * s + 32 * 1)))) 0 ((2000 : Int32) + 4) v) O1.sa F2 G2).tsi
/-- a number behind a word that may stand: the reference's state, if it goes on -/
def thN (μ : MS) (k to lo hi : Int32) : MS × Int32 := if (f_X6_isThere μ k).2 = 0 then ((f_X6_isThere μ k).1, 1) else f_X6_number (f_X6_isThere μ k).1 to lo hi
theorem pe_st {i : Nat} (h : TK S A B σ μ) (h0 : Z0 μ) (hi : i < 29) {k : Int32} (hk : k = nI (kpi.getD i 0)) (lo hi' w : Int32) (j : Nat) (hj : j < 100000) (hw : nt μ j = w) :
    ((f_X7_perhaps σ i lo hi' w).2 = true ∧ FT (f_X7_perhaps σ i lo hi' w).1.1 (thN μ k (nI j) lo hi').1 ∧ (thN μ k (nI j) lo hi').2 = 0 ∧ (thN μ k (nI j) lo hi').1.2 = μ.2) ∨
    ((f_X7_perhaps σ i lo hi' w).2 = false ∧ (thN μ k (nI j) lo hi').2 = 1 ∧ ∃ A' B' v, A ≤ A' ∧ (f_X7_perhaps σ i lo hi' w).1.2 = v ∧ TK S A' B' (f_X7_perhaps σ i lo hi' w).1.1 (thN μ k (nI j) lo hi').1 ∧ NXF σ (f_X7_perhaps σ i lo hi' w).1.1 ∧ (∀ x, x < 100000 → nt (thN μ k (nI j) lo hi').1 x = if x = j then v else nt μ x) ∧ (thN μ k (nI j) lo hi').1.2.2.2 = μ.2.2.2 ∧ ∀ x, x ∉ [12, 13, 14, 15] → gi (thN μ k (nI j) lo hi').1 x = gi μ x) := by
  unfold thN
  rcases th_st h hi hk with ⟨v1, v2⟩ | ⟨v1, v2, v3, v4⟩
  · have e1 : f_X7_perhaps σ i lo hi' w = ((σ, w), false) := by
      unfold f_X7_perhaps
      dsimp only
      rw [if_pos v1]
    rw [e1, v2, if_pos rfl]
    refine Or.inr ⟨rfl, rfl, A, B, w, Nat.le_refl _, rfl, h, NXF.rf, fun x hx => ?_, rfl, fun _ _ => rfl⟩
    split
    · rename_i c; rw [c]; exact hw
    · rfl
  · obtain ⟨A1, B1, l1, T1, F1, G1⟩ := nx_st h
    have e1 : f_X7_perhaps σ i lo hi' w = if (f_X7_number (f_X7_next σ) lo hi').2 = true then (((f_X7_number (f_X7_next σ) lo hi').1.1, 0), true) else (((f_X7_number (f_X7_next σ) lo hi').1.1, (f_X7_number (f_X7_next σ) lo hi').1.2), false) := by
      unfold f_X7_perhaps
      dsimp only
      rw [if_neg (n10 v1)]
    rw [e1, v2, if_neg (show ¬ ((f_X6_ahead μ, (1 : Int32)) : MS × Int32).2 = 0 from (by decide : ¬ (1 : Int32) = 0))]
    dsimp only
    rcases nu_st T1 (G1.f h0) lo hi' (nI j) with ⟨w1, w2, w3⟩ | ⟨w1, w2, A2, B2, v, l2, ev, -, T2, F2, G2⟩
    · rw [if_pos w1]
      exact Or.inl ⟨rfl, w2, w3.1, w3.2.trans G1.1⟩
    · rw [if_neg (nf w1)]
      refine Or.inr ⟨rfl, w2, A2, B2, v, by omega, ev, T2, F1.tr F2, fun x hx => ?_, ?_, fun x hx => ((G2.2 x hx).trans gi_sa).trans (G1.2 x hx)⟩
      · rw [nt_of G2.1, nt_sa hx hj, nt_of G1.1]
      · rw [G2.1, sa_nm, G1.1]
theorem pr_eta {α β : Type} (x : α × β) : (x.1, x.2) = x := rfl
/-- the reference's way through a person's numbers -/
def psT (n : Nat) (σ : MS) : MS × Int32 := (let z205 := (f_X6_isThere σ (10 : Int32)); let σ205 := z205.1; let r205 := z205.2; (let z225_ : MS := (if r205 = (0 : Int32) then (σ205) else ((let σ224 := sa σ205 0 (2007 : Int32) ((ga σ205 0 (2007 : Int32)) ||| ((1 : Int32) <<< (nI n &&& (31 : Int32)))); σ224))); let σJ225 := z225_; (let σ238 := sa σJ225 0 (2008 : Int32) ((ga σJ225 0 (2008 : Int32)) ||| ((1 : Int32) <<< (nI n &&& (31 : Int32)))); let σ250 := sa σ238 0 (2000 : Int32) ((ga σ238 0 (2000 : Int32)) + (1 : Int32)); (σ250, (1 : Int32)))))
def psB (f : MS → MS × Int32) (x : MS × Int32) : MS × Int32 := if x.2 = 0 then (x.1, 0) else f x.1
def psS (n : Nat) (k to lo hi : Int32) (f : MS → MS × Int32) (σ : MS) : MS × Int32 := if (f_X6_isThere σ k).2 = 0 then f (f_X6_isThere σ k).1 else if (f_X6_number (f_X6_isThere σ k).1 to lo hi).2 = 0 then ((f_X6_number (f_X6_isThere σ k).1 to lo hi).1, 0) else f (f_X6_number (f_X6_isThere σ k).1 to lo hi).1
theorem psS_e (n : Nat) (k to lo hi : Int32) (f : MS → MS × Int32) (σ : MS) : psS n k to lo hi f σ = psB f (thN σ k to lo hi) := by
  unfold psS psB thN
  by_cases c : (f_X6_isThere σ k).2 = 0
  · rw [if_pos c, if_pos c]
    rfl
  · rw [if_neg c, if_neg c]
theorem aP_e (e0 : ga μ 0 (2000 : Int32) = nI n) : f_X6_aPerson μ = if nI n = 6 then f_X6_fails μ 6 else if f_X6_isName (f_X6_ahead μ) = 0 then f_X6_fails (f_X6_ahead μ) 2 else if f_X6_findHere (f_X6_ahead μ) 24 (nI n) = -1 then
    psS n 6 (nI (2012 + 8 * n)) 0 16 (psS n 7 (nI (2012 + 8 * n + 1)) 0 20 (psS n 8 (nI (2012 + 8 * n + 2)) 0 99 (psS n 9 (nI (2012 + 8 * n + 3)) 0 999 (psT n)))) (sa (sa (sa (f_X6_ahead (sb (f_X6_ahead μ) 1 (24 + nI n) (f_X6_nameHere (f_X6_ahead μ)))) 0 (nI (2012 + 8 * n + 1)) 1) 0 (nI (2012 + 8 * n + 3)) 999) 0 (nI (2012 + 8 * n + 4)) (-1))
    else f_X6_fails (f_X6_ahead μ) 3 := by
  have i1 : nI (2012 + 8 * n) + (1 : Int32) = nI (2012 + 8 * n + 1) := nI_1 _
  have i2 : nI (2012 + 8 * n) + (2 : Int32) = nI (2012 + 8 * n + 2) := nI_add _ 2
  have i3 : nI (2012 + 8 * n) + (3 : Int32) = nI (2012 + 8 * n + 3) := nI_add _ 3
  have i4 : nI (2012 + 8 * n) + (4 : Int32) = nI (2012 + 8 * n + 4) := nI_add _ 4
  unfold f_X6_aPerson
  simp only [e0, ix_p0 n, i1, i2, i3, i4, psS, psT, pr_eta]
end TQS
