/-! TEXTS: the parts of a year's step, both readers -/
set_option maxRecDepth 100000
/-- but for one row of a year, and the token, all stays -/
def WR (r : Nat) (μ μ' : MS) : Prop := (∀ j, j < 100000 → (j < r ∨ r + 6 ≤ j) → nt μ' j = nt μ j) ∧ μ'.2.2.2 = μ.2.2.2 ∧ (∀ k, ¬ k = 0 → μ'.2.2.1 k = μ.2.2.1 k) ∧ gi μ' 10 = gi μ 10
theorem WR.rf {r : Nat} {μ : MS} : WR r μ μ := ⟨fun _ _ _ => rfl, rfl, fun _ _ => rfl, rfl⟩
theorem WR.tr {r : Nat} {μ w u : MS} (h : WR r μ w) (h2 : WR r w u) : WR r μ u := ⟨fun j a b => (h2.1 j a b).trans (h.1 j a b), h2.2.1.trans h.2.1, fun k hk => (h2.2.2.1 k hk).trans (h.2.2.1 k hk), h2.2.2.2.trans h.2.2.2⟩
theorem WR.e {r : Nat} {μ w w' : MS} (h : WR r μ w) (e : w'.2 = w.2) (g : gi w' 10 = gi w 10) : WR r μ w' := h.tr ⟨fun j _ _ => nt_of e j, by rw [e], fun k _ => by rw [e], g⟩
theorem WR.s {r k : Nat} {v : Int32} {μ w : MS} (h : WR r μ w) (hk : r ≤ k ∧ k < r + 6) (hr : r < 90000) : WR r μ (sa w 0 (nI k) v) := h.tr ⟨fun j a b => nt_ne (by omega) a (by omega), rfl, fun k hk => by
  show va_up w.2.2.1 0 _ k = w.2.2.1 k
  exact if_neg hk, rfl⟩
theorem WR.w {r k : Nat} {μ w w' : MS} (h : WR r μ w) (hk : r ≤ k ∧ k < r + 6) (hr : r < 90000) (hw : W1 (nI k) w w') (g : gi w' 10 = gi w 10) : WR r μ w' := by
  rcases hw with e | ⟨v, e⟩
  · exact h.e e g
  · exact (h.s (v := v) hk hr).e e g
theorem WR.se {r k : Nat} {v : Int32} {μ w w' : MS} (h : WR r μ w) (hk : r ≤ k ∧ k < r + 6) (hr : r < 90000) (e : w'.2 = (sa w 0 (nI k) v).2) (g : gi w' 10 = gi w 10) : WR r μ w' := (h.s hk hr).e e g
/-- what two do behind an order: the same fault, or the same step -/
def YO (S A r : Nat) (σ : MS × MS) (μ : MS) {X : Type} (x : (MS × MS) × Option X) (y : MS × Int32) (R : X → MS → Prop) : Prop :=
  (x.2 = none ∧ FT x.1 y.1 ∧ y.2 = 0 ∧ WR r μ y.1) ∨
  (∃ v, x.2 = some v ∧ y.2 = 1 ∧ R v y.1 ∧ WR r μ y.1 ∧ (∀ k, k ∉ [12, 13, 14, 15] → gi y.1 k = gi μ k) ∧ ∃ A' B', A ≤ A' ∧ TK S A' B' x.1 y.1 ∧ NXF σ x.1)
theorem YO.l {S A r : Nat} {σ : MS × MS} {μ : MS} {X : Type} {x : MS × MS} {y : MS} {v : Int32} {R : X → MS → Prop} (h : FT x y) (e : v = 0) (k : WR r μ y) : YO S A r σ μ ((x, none) : (MS × MS) × Option X) (y, v) R := Or.inl ⟨rfl, h, e, k⟩
theorem YO.f {S A r : Nat} {σ : MS × MS} {μ : MS} {X : Type} {x : MS × MS} {y : MS × Int32} {R : X → MS → Prop} (h : FT x y.1) (e : y.2 = 0) (k : WR r μ y.1) : YO S A r σ μ ((x, none) : (MS × MS) × Option X) y R := Or.inl ⟨rfl, h, e, k⟩
theorem YO.g {S A A' B' r : Nat} {σ : MS × MS} {μ : MS} {X : Type} {x : MS × MS} {y : MS × Int32} {z : X} {R : X → MS → Prop} (e : y.2 = 1) (hR : R z y.1) (k : WR r μ y.1) (g : ∀ k, k ∉ [12, 13, 14, 15] → gi y.1 k = gi μ k) (l : A ≤ A') (T : TK S A' B' x y.1) (F : NXF σ x) : YO S A r σ μ ((x, some z) : (MS × MS) × Option X) y R := Or.inr ⟨z, rfl, e, hR, k, g, A', B', l, T, F⟩
theorem YO.r {S A A' B' r : Nat} {σ : MS × MS} {μ : MS} {X : Type} {x : MS × MS} {y : MS} {v : Int32} {z : X} {R : X → MS → Prop} (e : v = 1) (hR : R z y) (k : WR r μ y) (g : ∀ k, k ∉ [12, 13, 14, 15] → gi y k = gi μ k) (l : A ≤ A') (T : TK S A' B' x y) (F : NXF σ x) : YO S A r σ μ ((x, some z) : (MS × MS) × Option X) (y, v) R := Or.inr ⟨z, rfl, e, hR, k, g, A', B', l, T, F⟩
section YL
variable {S A B n r : Nat} {σ : MS × MS} {μ : MS}
theorem gsa {μ μ' : MS} {i v : Int32} (h : AHF (sa μ 0 i v) μ') : ∀ k, k ∉ [12, 13, 14, 15] → gi μ' k = gi μ k := fun k hk => h.2 k hk
theorem NMS.sa {base : Int32} {i v : Int32} {τ : MS} (h : NMS n base τ μ) : NMS n base τ (sa μ 0 i v) := h.of rfl rfl
theorem nr_1 (r k : Nat) : nI r + nI k = nI (r + k) := nI_add r k
/-- a dinner's payer -/
theorem pay_y (h : TK S A B σ μ) (h0 : Z0 μ) (hN : NMS n 0 (ttb σ) μ) (hp : ga μ 0 0 = nI n) (hr : 2130 ≤ r ∧ r < 2490) (w : Int32) :
    YO S A r σ μ (plnP σ w) (f_X6_yearOrder μ 17 (nI r)) (fun v u => v.1 = w ∧ nt u r = nt μ r ∧ nt u (r + 1) = v.2.1 ∧ (v.2.1 = -1 ∨ ∃ p, p < n ∧ v.2.1 = nI p)) := by
  have i1 : nI r + (1 : Int32) = nI (r + 1) := nI_1 r
  have hn6 := hN.2.1
  unfold f_X6_yearOrder
  rw [if_pos rfl]
  dsimp only
  rw [i1]
  have T0 := h.sa (nI (r + 1)) (-1)
  have W0 : WR r μ (sa μ 0 (nI (r + 1)) (-1)) := WR.rf.s (by omega) (by omega)
  rcases th_st T0 (i := 21) (by omega) (k := 11) rfl with ⟨v1, v2⟩ | ⟨v1, v2, v3, v4⟩
  · have e1 : plnP σ w = (σ, some (w, -1, -1, 0)) := by
      unfold plnP f_X7_payer
      dsimp only
      rw [if_pos v1]
      exact if_neg Bool.false_ne_true
    rw [v2, e1]
    dsimp only
    rw [if_pos rfl]
    exact YO.r (A' := A) (B' := B) rfl ⟨rfl, nt_ne (by omega) (by omega) (by omega), nt_eq rfl, Or.inl rfl⟩ W0 (fun _ _ => rfl) (Nat.le_refl _) T0 NXF.rf
  · obtain ⟨A1, B1, l1, T1, F1, G1⟩ := nx_st T0
    rw [v2]
    dsimp only
    rw [if_neg (show ¬ (1 : Int32) = 0 by decide)]
    have Z1 : Z0 (f_X6_ahead (sa μ 0 (nI (r + 1)) (-1))) := G1.f h0
    have N1 : NMS n 0 (ttb (f_X7_next σ)) (f_X6_ahead (sa μ 0 (nI (r + 1)) (-1))) := hN.sa.nx F1.1 G1.1
    have p1 : ga (f_X6_ahead (sa μ 0 (nI (r + 1)) (-1))) 0 0 = nI n := (ga_2 G1.1 0 0).trans ((nt_ne (j := 0) (by omega) (by omega) (by omega)).trans hp)
    have e2 : f_X6_personTo (f_X6_ahead (sa μ 0 (nI (r + 1)) (-1))) (nI (r + 1)) = f_X6_oldOne (f_X6_ahead (sa μ 0 (nI (r + 1)) (-1))) 0 (nI n) (nI (r + 1)) := by
      unfold f_X6_personTo
      dsimp only
      rw [p1]
    rw [e2]
    have W1' : WR r μ (f_X6_ahead (sa μ 0 (nI (r + 1)) (-1))) := W0.e G1.1 (g_ah _)
    have e3 : plnP σ w = if (f_X7_who (f_X7_next σ)).2 = true then ((f_X7_who (f_X7_next σ)).1.1, none) else ((f_X7_who (f_X7_next σ)).1.1, some (w, (f_X7_who (f_X7_next σ)).1.2, -1, 0)) := by
      unfold plnP f_X7_payer
      dsimp only
      rw [if_neg (n10 v1)]
      by_cases c : (f_X7_who (f_X7_next σ)).2 = true
      · rw [if_pos c, if_pos c]
        exact if_pos rfl
      · rw [if_neg c, if_neg c]
        exact if_neg Bool.false_ne_true
    rw [e3]
    rcases wh_st (base := 0) T1 Z1 N1 (nI (r + 1)) with ⟨w1, w2, w3, w4⟩ | ⟨w1, w2, A2, B2, p, l2, hp', ep, T2, F2, G2⟩
    · rw [if_pos w1, if_pos w3]
      exact YO.l w2 rfl (W1'.w (by omega) (by omega) w4 (g_ol _ _ _ _))
    · rw [if_neg (nf w1), if_neg (n10 w2), ep]
      refine YO.r (A' := A2) (B' := B2) rfl ⟨rfl, ?_, ?_, Or.inr ⟨p, hp', rfl⟩⟩ (W1'.se (k := r + 1) (by omega) (by omega) G2.1 (g_ol _ _ _ _)) (fun k hk => (gsa G2 k hk).trans (gsa G1 k hk)) (by have := h.2.2.2.1.1; omega) T2 (F1.tr F2)
      · rw [nt_of G2.1, nt_ne (by omega) (by omega) (by omega), nt_of G1.1, nt_ne (by omega) (by omega) (by omega)]
      · rw [nt_of G2.1]
        exact nt_eq rfl
/-- one, a word, another one -/
def twoQ (σ : MS × MS) (i : Nat) : (MS × MS) × Option (Int32 × Int32) :=
  if (f_X7_who σ).2 = true then ((f_X7_who σ).1.1, none)
  else if (f_X7_word (f_X7_who σ).1.1 i).2 = true then ((f_X7_word (f_X7_who σ).1.1 i).1, none)
  else if (f_X7_otherThan (f_X7_word (f_X7_who σ).1.1 i).1 (f_X7_who σ).1.2).2 = true then ((f_X7_otherThan (f_X7_word (f_X7_who σ).1.1 i).1 (f_X7_who σ).1.2).1.1, none)
  else ((f_X7_otherThan (f_X7_word (f_X7_who σ).1.1 i).1 (f_X7_who σ).1.2).1.1, some ((f_X7_who σ).1.2, (f_X7_otherThan (f_X7_word (f_X7_who σ).1.1 i).1 (f_X7_who σ).1.2).1.2))
def twoM (μ : MS) (k : Int32) (r : Nat) : MS × Int32 :=
  if (f_X6_personTo μ (nI (r + 1))).2 = 0 then ((f_X6_personTo μ (nI (r + 1))).1, 0)
  else if (f_X6_wantWord (f_X6_personTo μ (nI (r + 1))).1 k).2 = 0 then ((f_X6_wantWord (f_X6_personTo μ (nI (r + 1))).1 k).1, 0)
  else if (f_X6_otherOne (f_X6_wantWord (f_X6_personTo μ (nI (r + 1))).1 k).1 0 (ga (f_X6_wantWord (f_X6_personTo μ (nI (r + 1))).1 k).1 0 0) (nI (r + 1)) (nI (r + 2))).2 = 0 then ((f_X6_otherOne (f_X6_wantWord (f_X6_personTo μ (nI (r + 1))).1 k).1 0 (ga (f_X6_wantWord (f_X6_personTo μ (nI (r + 1))).1 k).1 0 0) (nI (r + 1)) (nI (r + 2))).1, 0)
  else ((f_X6_otherOne (f_X6_wantWord (f_X6_personTo μ (nI (r + 1))).1 k).1 0 (ga (f_X6_wantWord (f_X6_personTo μ (nI (r + 1))).1 k).1 0 0) (nI (r + 1)) (nI (r + 2))).1, 1)
theorem g_pe (μ : MS) (k : Int32) : gi (f_X6_personTo μ k).1 10 = gi μ 10 := g_ol _ _ _ _
theorem two_y (h : TK S A B σ μ) (h0 : Z0 μ) (hN : NMS n 0 (ttb σ) μ) (hp : ga μ 0 0 = nI n) (hr : 2130 ≤ r ∧ r < 2490) {i : Nat} (hi : i < 29) {k : Int32} (hk : k = nI (kpi.getD i 0)) :
    YO S A r σ μ (twoQ σ i) (twoM μ k r) (fun v u => nt u r = nt μ r ∧ nt u (r + 1) = v.1 ∧ nt u (r + 2) = v.2 ∧ (∃ p, p < n ∧ v.1 = nI p) ∧ ∃ p, p < n ∧ v.2 = nI p) := by
  have hn6 := hN.2.1
  have hAB := h.2.2.2.1.1
  unfold twoQ twoM
  have e2 : f_X6_personTo μ (nI (r + 1)) = f_X6_oldOne μ 0 (nI n) (nI (r + 1)) := by
    unfold f_X6_personTo
    dsimp only
    rw [hp]
  rw [e2]
  rcases wh_st (base := 0) h h0 hN (nI (r + 1)) with ⟨w1, w2, w3, w4⟩ | ⟨w1, w2, A1, B1, p, l1, hp1, ep, T1, F1, G1⟩
  · rw [if_pos w1, if_pos w3]
    exact YO.l w2 rfl (WR.rf.w (by omega) (by omega) w4 (g_ol _ _ _ _))
  rw [if_neg (nf w1), if_neg (n10 w2), ep]
  have W1' : WR r μ (f_X6_oldOne μ 0 (nI n) (nI (r + 1))).1 := WR.rf.se (k := r + 1) (v := nI p) (by omega) (by omega) G1.1 (g_ol _ _ _ _)
  have N1 : NMS n 0 (ttb (f_X7_who σ).1.1) (f_X6_oldOne μ 0 (nI n) (nI (r + 1))).1 := hN.sa.nx F1.1 G1.1
  have p1 : ga (f_X6_oldOne μ 0 (nI n) (nI (r + 1))).1 0 0 = nI n := (ga_2 G1.1 0 0).trans ((nt_ne (j := 0) (by omega) (by omega) (by omega)).trans hp)
  have c1 : nt (f_X6_oldOne μ 0 (nI n) (nI (r + 1))).1 (r + 1) = nI p := (nt_of G1.1 _).trans (nt_eq rfl)
  have c0 : nt (f_X6_oldOne μ 0 (nI n) (nI (r + 1))).1 r = nt μ r := (nt_of G1.1 _).trans (nt_ne (by omega) (by omega) (by omega))
  have I1 := gsa G1
  have Z1 : Z0 (f_X6_oldOne μ 0 (nI n) (nI (r + 1))).1 := G1.f h0
  generalize (f_X7_who σ).1.1 = σ1 at T1 F1 N1 ⊢
  generalize (f_X6_oldOne μ 0 (nI n) (nI (r + 1))).1 = μ1 at T1 W1' N1 p1 c1 c0 I1 Z1 ⊢
  rcases wo_st T1 Z1 hi hk with ⟨w1, w2, w3, w4⟩ | ⟨w1, w2, A2, B2, l2, T2, F2, G2⟩
  · rw [if_pos w1, if_pos w3]
    exact YO.l w2 rfl (W1'.e w4 (g_ww _ _))
  rw [if_neg (nf w1), if_neg (n10 w2)]
  have N2 : NMS n 0 (ttb (f_X7_word σ1 i).1) (f_X6_wantWord μ1 k).1 := N1.nx F2.1 G2.1
  have p2 : ga (f_X6_wantWord μ1 k).1 0 0 = nI n := (ga_2 G2.1 0 0).trans p1
  have c2 : ga (f_X6_wantWord μ1 k).1 0 (nI (r + 1)) = nI p := (ga_2 G2.1 0 _).trans c1
  rw [p2]
  rcases ot_st (base := 0) T2 (G2.f Z1) N2 (nI (r + 1)) (nI (r + 2)) c2 (nI_m1 (by omega)) with ⟨w1, w2, w3, w4⟩ | ⟨w1, w2, A3, B3, q, l3, hq, eq, T3, F3, G3⟩
  · rw [if_pos w1, if_pos w3]
    exact YO.l w2 rfl ((W1'.e G2.1 (g_ww _ _)).w (by omega) (by omega) w4 (g_ot _ _ _ _ _))
  rw [if_neg (nf w1), if_neg (n10 w2), eq]
  refine YO.r (A' := A3) (B' := B3) rfl ⟨?_, ?_, ?_, ⟨p, hp1, rfl⟩, q, hq, rfl⟩ ((W1'.e G2.1 (g_ww _ _)).se (k := r + 2) (v := nI q) (by omega) (by omega) G3.1 (g_ot _ _ _ _ _)) (fun k hk => (gsa G3 k hk).trans ((G2.2 k hk).trans (I1 k hk))) (by omega) T3 ((F1.tr F2).tr F3)
  · rw [nt_of G3.1, nt_ne (by omega) (by omega) (by omega), nt_of G2.1]
    exact c0
  · rw [nt_of G3.1, nt_ne (by omega) (by omega) (by omega), nt_of G2.1]
    exact c1
  · rw [nt_of G3.1]
    exact nt_eq rfl
theorem plnA_e (σ : MS × MS) (w : Int32) : plnA σ w = match (twoQ σ (if w = 1 then 24 else 25)).2 with
    | none => ((twoQ σ (if w = 1 then 24 else 25)).1, none)
    | some v => if w = 1 then ((twoQ σ (if w = 1 then 24 else 25)).1, some (w, v.1, v.2, 0)) else if (f_X7_number (twoQ σ (if w = 1 then 24 else 25)).1 1 999).2 = true then ((f_X7_number (twoQ σ (if w = 1 then 24 else 25)).1 1 999).1.1, none) else ((f_X7_number (twoQ σ (if w = 1 then 24 else 25)).1 1 999).1.1, some (w, v.1, v.2, (f_X7_number (twoQ σ (if w = 1 then 24 else 25)).1 1 999).1.2)) := by
  unfold plnA plnW plnB twoQ
  generalize (if w = 1 then 24 else 25 : Nat) = i
  by_cases c1 : (f_X7_who σ).2 = true
  · simp only [if_pos c1]
  · simp only [if_neg c1]
    by_cases c2 : (f_X7_word (f_X7_who σ).1.1 i).2 = true
    · simp only [if_pos c2]
    · simp only [if_neg c2]
      by_cases c3 : (f_X7_otherThan (f_X7_word (f_X7_who σ).1.1 i).1 (f_X7_who σ).1.2).2 = true
      · simp only [if_pos c3]
      · simp only [if_neg c3]
/-- a duel -/
theorem duel_y (h : TK S A B σ μ) (h0 : Z0 μ) (hN : NMS n 0 (ttb σ) μ) (hp : ga μ 0 0 = nI n) (hr : 2130 ≤ r ∧ r < 2490) :
    YO S A r σ μ (plnA σ 1) (f_X6_yearOrder μ 18 (nI r)) (fun v u => v.1 = 1 ∧ nt u r = nt μ r ∧ nt u (r + 1) = v.2.1 ∧ nt u (r + 2) = v.2.2.1 ∧ (∃ p, p < n ∧ v.2.1 = nI p) ∧ ∃ p, p < n ∧ v.2.2.1 = nI p) := by
  have i1 : nI r + (1 : Int32) = nI (r + 1) := nI_1 r
  have i2 : nI r + (2 : Int32) = nI (r + 2) := nI_add r 2
  have em : f_X6_yearOrder μ 18 (nI r) = twoM μ 22 r := by
    unfold f_X6_yearOrder twoM
    rw [if_neg (by decide), if_pos rfl]
    dsimp only
    rw [i1, i2]
  have q := two_y h h0 hN hp hr (i := 24) (by omega) (k := 22) rfl
  rw [em, plnA_e, if_pos rfl]
  rcases q with ⟨q1, q2, q3, q4⟩ | ⟨v, q1, q2, ⟨r1, r2, r3, r4, r5⟩, q4, q5, q6⟩
  · rw [q1]
    exact Or.inl ⟨rfl, q2, q3, q4⟩
  · rw [q1]
    dsimp only
    rw [if_pos rfl]
    exact Or.inr ⟨_, rfl, q2, ⟨rfl, r1, r2, r3, r4, r5⟩, q4, q5, q6⟩
/-- a loan or a gift -/
theorem lend_y (h : TK S A B σ μ) (h0 : Z0 μ) (hN : NMS n 0 (ttb σ) μ) (hp : ga μ 0 0 = nI n) (hr : 2130 ≤ r ∧ r < 2490) {w key : Int32} (hw : (w = 2 ∧ key = 19) ∨ (w = 3 ∧ key = 20)) :
    YO S A r σ μ (plnA σ w) (f_X6_yearOrder μ key (nI r)) (fun v u => v.1 = w ∧ nt u r = nt μ r ∧ nt u (r + 1) = v.2.1 ∧ nt u (r + 2) = v.2.2.1 ∧ nt u (r + 3) = v.2.2.2 ∧ (∃ p, p < n ∧ v.2.1 = nI p) ∧ (∃ p, p < n ∧ v.2.2.1 = nI p) ∧ 1 ≤ v.2.2.2.toInt ∧ v.2.2.2.toInt ≤ 999) := by
  have i1 : nI r + (1 : Int32) = nI (r + 1) := nI_1 r
  have i2 : nI r + (2 : Int32) = nI (r + 2) := nI_add r 2
  have i3 : nI r + (3 : Int32) = nI (r + 3) := nI_add r 3
  have hw1 : ¬ w = 1 := by rcases hw with ⟨z, -⟩ | ⟨z, -⟩ <;> rw [z] <;> decide
  have em : f_X6_yearOrder μ key (nI r) = if (twoM μ 23 r).2 = 0 then ((twoM μ 23 r).1, 0) else if (f_X6_number (twoM μ 23 r).1 (nI (r + 3)) 1 999).2 = 0 then ((f_X6_number (twoM μ 23 r).1 (nI (r + 3)) 1 999).1, 0) else ((f_X6_number (twoM μ 23 r).1 (nI (r + 3)) 1 999).1, 1) := by
    have e9 : f_X6_yearOrder μ key (nI r) = (let z137 := (f_X6_personTo μ (nI (r + 1))); if z137.2 = (0 : Int32) then ((z137.1, (0 : Int32))) else ((let z148 := (f_X6_wantWord z137.1 (23 : Int32)); if z148.2 = (0 : Int32) then ((z148.1, (0 : Int32))) else ((let z168 := (f_X6_otherOne z148.1 (0 : Int32) (ga z148.1 0 (0 : Int32)) (nI (r + 1)) (nI (r + 2))); if z168.2 = (0 : Int32) then ((z168.1, (0 : Int32))) else ((let z182 := (f_X6_number z168.1 (nI (r + 3)) (1 : Int32) (999 : Int32)); if z182.2 = (0 : Int32) then ((z182.1, (0 : Int32))) else ((z182.1, (1 : Int32)))))))))) := by
      unfold f_X6_yearOrder
      rw [i1, i2, i3]
      rcases hw with ⟨-, z⟩ | ⟨-, z⟩
      · rw [z, if_neg (by decide), if_neg (by decide), if_pos rfl]
      · rw [z, if_neg (by decide), if_neg (by decide), if_neg (by decide), if_pos rfl]
    rw [e9]
    unfold twoM
    dsimp only
    by_cases c1 : (f_X6_personTo μ (nI (r + 1))).2 = 0
    · simp only [if_pos c1, if_true]
    · simp only [if_neg c1]
      by_cases c2 : (f_X6_wantWord (f_X6_personTo μ (nI (r + 1))).1 23).2 = 0
      · simp only [if_pos c2, if_true]
      · simp only [if_neg c2]
        by_cases c3 : (f_X6_otherOne (f_X6_wantWord (f_X6_personTo μ (nI (r + 1))).1 23).1 0 (ga (f_X6_wantWord (f_X6_personTo μ (nI (r + 1))).1 23).1 0 0) (nI (r + 1)) (nI (r + 2))).2 = 0
        · simp only [if_pos c3, if_true]
        · simp only [if_neg c3]
          rw [if_neg (show ¬ (1 : Int32) = 0 by decide)]
  have q := two_y h h0 hN hp hr (i := 25) (by omega) (k := 23) rfl
  rw [em, plnA_e, if_neg hw1]
  rcases q with ⟨q1, q2, q3, q4⟩ | ⟨v, q1, q2, ⟨r1, r2, r3, r4, r5⟩, q4, q5, A1, B1, l1, T1, F1⟩
  · rw [q1, if_pos q3]
    exact YO.l q2 rfl (q4)
  · rw [q1, if_neg (n10 q2)]
    dsimp only
    rw [if_neg hw1]
    have Z1 : Z0 (twoM μ 23 r).1 := ⟨(q5 18 (by decide)).trans h0.1, (q5 17 (by decide)).trans h0.2⟩
    rcases nu_st T1 Z1 1 999 (nI (r + 3)) with ⟨w1, w2, w3, w4⟩ | ⟨w1, w2, A2, B2, x, l2, ex, hx, T2, F2, G2⟩
    · rw [if_pos w1, if_pos w3]
      exact YO.l w2 rfl (q4.e w4 (g_nu _ _ _ _))
    · rw [if_neg (nf w1), if_neg (n10 w2), ex]
      refine YO.r (A' := A2) (B' := B2) rfl ⟨rfl, ?_, ?_, ?_, ?_, r4, r5, hx⟩ (q4.se (k := r + 3) (v := x) (by omega) (by omega) G2.1 (g_nu _ _ _ _)) (fun k hk => (gsa G2 k hk).trans (q5 k hk)) (by omega) T2 (F1.tr F2)
      · rw [nt_of G2.1, nt_ne (by omega) (by omega) (by omega)]; exact r1
      · rw [nt_of G2.1, nt_ne (by omega) (by omega) (by omega)]; exact r2
      · rw [nt_of G2.1, nt_ne (by omega) (by omega) (by omega)]; exact r3
      · rw [nt_of G2.1]; exact nt_eq rfl
end YL
