/-! TEXTS: a year's blocks; every step -/
set_option maxRecDepth 100000
theorem sh_k {μ : MS} {k : Nat} (hk : k < 1000) : ga (shY μ) 0 (rowI (nI k)) = nt μ (2130 + 6 * k) := by
  rw [ro_0, sh_r (by omega) (by omega), show 2000 + (130 + 6 * k) = 2130 + 6 * k by omega]
theorem sh_i {μ : MS} {k : Nat} (i : Nat) (hk : k < 1000) (hi : i < 1000) : ga (shY μ) 0 (rowI (nI k) + nI i) = nt μ (2130 + 6 * k + i) := by
  rw [ro_i, sh_r (by omega) (by omega), show 2000 + (130 + 6 * k + i) = 2130 + 6 * k + i by omega]
theorem YO.mono {S A A' r : Nat} {σ : MS × MS} {μ : MS} {X : Type} {x : (MS × MS) × Option X} {y : MS × Int32} {R R' : X → MS → Prop} (h : YO S A r σ μ x y R) (hA : A' ≤ A) (hR : ∀ v u, R v u → R' v u) : YO S A' r σ μ x y R' := by
  rcases h with h | ⟨v, a1, a2, a3, a4, a5, A1, B1, l, T, F⟩
  · exact Or.inl h
  · exact Or.inr ⟨v, a1, a2, hR _ _ a3, a4, a5, A1, B1, by omega, T, F⟩
section BLK
variable {S A B n k c e d : Nat} {σ : MS × MS} {μ : MS}
/-- what comes behind a block's head -/
theorem blk_st (hS : STS d) (h : YSt S A B n k c e σ μ) (hed : e + (d + 1) = 3) (h1 : gi (own σ) 3 = 1) (key : Int32) (hk : f_X6_inWords μ = key) (hkey : key = 24 ∨ key = 25) (h30 : ¬ gi μ 23 = 30)
    {Y : Type} (H : (MS × MS) × Option Y) (mk : Y → List (ST (TR d)) → ST (TR (d + 1))) {R : Y → MS → Prop}
    (hY : ∀ A1 B1, A < A1 → TK S A1 B1 (f_X7_next (lsi σ 5 (gi (own σ) 5 + 1))) (f_X6_ahead (hdM μ key k 1 1)) → Z0 (f_X6_ahead (hdM μ key k 1 1)) → NMS n 0 (ttb (f_X7_next (lsi σ 5 (gi (own σ) 5 + 1)))) (f_X6_ahead (hdM μ key k 1 1)) → ga (f_X6_ahead (hdM μ key k 1 1)) 0 0 = nI n → nt (f_X6_ahead (hdM μ key k 1 1)) (2130 + 6 * k) = key → YO S A1 (2130 + 6 * k) (f_X7_next (lsi σ 5 (gi (own σ) 5 + 1))) (f_X6_ahead (hdM μ key k 1 1)) H (yoM μ key k 1 1) R)
    (hST : ∀ y u u' (l : List (ST (TR d))) i, R y u → ga u' 0 0 = nI n → (∀ x, x < 6 → ¬ x = 4 → nt u' (2130 + 6 * k + x) = nt u (2130 + 6 * k + x)) → nt u' (2130 + 6 * k + 4) = nI i → trR (shY u') (d + 1) l (k + 1) i → i < 1000 → nt u' (2130 + 6 * i) = 26 → nt u' (2130 + 6 * i + 4) = nI k → stR (shY u') (trR (shY u') (d + 1)) (mk y l) k (i + 1))
    (X : (MS × MS) × Option (ST (TR (d + 1)))) (hX : X = match H.2 with
      | none => (H.1, none)
      | some y => endP (bodP (fun σ => (lstP (stP d) 901 σ : (MS × MS) × Option (List (ST (TR d))))) (mk y) H.1).2 (bodP (fun σ => (lstP (stP d) 901 σ : (MS × MS) × Option (List (ST (TR d))))) (mk y) H.1).1) :
    (X.2 = none ∧ ∃ m, m + A ≤ S + 1 ∧ RBAD m μ X.1) ∨
    (∃ x, X.2 = some x ∧ ∃ (m : Nat) (μ' : MS) (A' B' k' c' : Nat), A + m ≤ A' ∧ 1 ≤ m ∧ RUN m μ μ' ∧ YSt S A' B' n k' c' e X.1 μ' ∧ k ≤ k' ∧ YF k e μ μ' ∧ stR (shY μ') (trR (shY μ') (d + 1)) x k k') := by
  have H0 := h
  obtain ⟨T, Z, N, P, K9, E22, C23, C5, hkc, hc, he⟩ := h
  have n6 := N.2.1
  have h3 : ¬ gi (own σ) 3 = 0 := by rw [h1]; decide
  have hS9 := T.1.1
  obtain ⟨g1, g2, g3, g4⟩ := hd_e (key := key) (o := 1) (t := 1) (k := k) (by omega) K9
  obtain ⟨A1, B1, l1, T1, F1, G1, Z1, N1, P1⟩ := hd_st H0 h1 key 1 1 _ (Or.inr rfl)
  have e22 : ¬ gi μ 22 = 3 := fun z => by
    rw [E22] at z
    have := (nI_eq (a := e) (b := 3) (by omega) (by omega)).mp z
    omega
  have eY : f_X6_yearStep μ = oM μ key k := yS_open K9 hk hkey h30 e22
  have hAS := T.2.2.2.1
  have c29 : c < 30 := by
    rcases Nat.lt_or_ge c 30 with z | z
    · exact z
    · exact (h30 (by rw [C23, show c = 30 by omega]; rfl)).elim
  have nh : ∀ j, j < 100000 → nt (f_X6_ahead (hdM μ key k 1 1)) j = if j = 2009 then nI (k + 1) else if j = 2130 + 6 * k then key else if 2130 + 6 * k < j ∧ j < 2130 + 6 * k + 6 then 0 else nt μ j := fun j hj => (nt_of G1.1 j).trans (g4 j hj)
  have Y := hY A1 B1 l1 T1 Z1 N1 P1 (by rw [nh _ (by omega), if_neg (by omega), if_pos rfl])
  have FR : ∀ u, WR (2130 + 6 * k) (f_X6_ahead (hdM μ key k 1 1)) u → YF k e μ u := fun u hu => by
    refine ⟨fun j h1 h2 => ?_, ?_, fun i hi => ?_, ?_⟩
    · rw [hu.1 j (by omega) (by omega), nh j (by omega), if_neg h2, if_neg (by omega), if_neg (by omega)]
    · rw [hu.2.1, G1.1, g3]
    · show u.2.2.1 21 _ = μ.2.2.1 21 _
      rw [hu.2.2.1 21 (by decide), G1.1, g2 21 (by decide)]
    · rw [hu.2.2.2, g_ah, g1, if_neg (by omega)]
  subst hX
  unfold oM at eY
  rcases Y with ⟨y1, y2, y3, y4⟩ | ⟨y, y1, y2, y3, y4, y5, A2, B2, l2, T2, F2⟩
  · rw [if_pos y3] at eY
    rw [y1]
    exact Or.inl ⟨rfl, 1, by omega, RBAD.one T h3 eY rfl y2 (FR _ y4).lk (FR _ y4).2.2.2⟩
  rw [if_neg (n10 y2)] at eY
  rw [y1]
  dsimp only
  have FR2 := FR _ y4
  have E2 : gi (yoM μ key k 1 1).1 22 = nI e := (y5 22 (by decide)).trans ((G1.2 22 (by decide)).trans ((g1 22).trans ((if_neg (by omega)).trans E22)))
  have C2 : gi (yoM μ key k 1 1).1 23 = nI (c + 1) := (y5 23 (by decide)).trans ((G1.2 23 (by decide)).trans ((g1 23).trans ((if_pos rfl).trans (by rw [C23, nI_1]))))
  have Z2 : Z0 (yoM μ key k 1 1).1 := ⟨(y5 18 (by decide)).trans Z1.1, (y5 17 (by decide)).trans Z1.2⟩
  have N2 : NMS n 0 (ttb H.1) (yoM μ key k 1 1).1 := N1.of F2.1 y4.2.1
  have P2 : ga (yoM μ key k 1 1).1 0 0 = nI n := (y4.1 0 (by omega) (by omega)).trans P1
  have K2 : nt (yoM μ key k 1 1).1 2009 = nI (k + 1) := (y4.1 2009 (by omega) (by omega)).trans ((nh 2009 (by omega)).trans (if_pos rfl))
  have C52 : gi (own H.1) 5 = nI (c + 1) := (F2.2.1 5 (by decide)).trans ((F1.2.1 5 (by decide)).trans (by show gi (own σ) 5 + 1 = _; rw [C5, nI_1]))
  generalize (yoM μ key k 1 1).1 = μ2 at eY y3 y4 T2 FR2 E2 C2 Z2 N2 P2 K2
  generalize H.1 = σ2 at T2 N2 C52 ⊢
  have ep : psh μ2 k = si (sa μ2 21 (nI e) (nI k)) 22 (nI (e + 1)) := by
    unfold psh
    rw [E2]
    show si (sa μ2 21 (nI e) (nI k)) 22 (gi μ2 22 + 1) = _
    rw [E2, nI_1]
  rw [ep] at eY
  have Tp : TK S A2 B2 σ2 (si (sa μ2 21 (nI e) (nI k)) 22 (nI (e + 1))) := (T2.mm (μ' := sa μ2 21 (nI e) (nI k)) (fun _ _ => rfl) (fun j => ga_sa_k (by decide))).msi (by decide)
  have Zp : Z0 (si (sa μ2 21 (nI e) (nI k)) 22 (nI (e + 1))) := Z2
  unfold bodP
  rcases cl_st Tp Zp with ⟨w1, w2, w3, w4⟩ | ⟨w1, w2, A3, B3, l3, T3, F3, G3⟩
  · rw [if_pos w1]
    refine Or.inl (BADI (m := 1) (by omega) (RBAD.one T h3 eY w3 w2 ?_ ((g_ws _ _).trans FR2.2.2.2)))
    refine LK.e (w := si (sa μ2 21 (nI e) (nI k)) 22 (nI (e + 1))) ?_ w4
    exact ⟨fun j hj => FR2.lk.1 j hj, fun j hj => FR2.lk.2 j hj⟩
  rw [if_neg (nf w1)]
  dsimp only
  have R1 := RUN.one T h3 eY w2
  have FR3 : YF k e μ (f_X6_wantSign (si (sa μ2 21 (nI e) (nI k)) 22 (nI (e + 1))) 59).1 := by
    refine ⟨fun j h1 h2 => (nt_of G3.1 j).trans (FR2.1 j h1 h2), by rw [G3.1]; exact FR2.2.1, fun i hi => (ga_2 G3.1 21 _).trans ?_, (g_ws _ _).trans FR2.2.2.2⟩
    refine Eq.trans ?_ (FR2.2.2.1 i hi)
    exact ga_sa_ne (σ := μ2) (nI_toInt (by omega)) (nI_toInt (by omega)) (by omega)
  have top : ga (f_X6_wantSign (si (sa μ2 21 (nI e) (nI k)) 22 (nI (e + 1))) 59).1 21 (nI e) = nI k := (ga_2 G3.1 21 _).trans ga_sa_eq
  have Y3 : YSt S A3 B3 n (k + 1) (c + 1) (e + 1) (f_X7_close σ2).1 (f_X6_wantSign (si (sa μ2 21 (nI e) (nI k)) 22 (nI (e + 1))) 59).1 :=
    ⟨T3, G3.f Zp, (N2.of (μ' := si (sa μ2 21 (nI e) (nI k)) 22 (nI (e + 1))) rfl rfl).nx F3.1 G3.1, (ga_2 G3.1 0 0).trans P2, (nt_of G3.1 _).trans K2, (G3.2 22 (by decide)).trans rfl, (G3.2 23 (by decide)).trans C2, (F3.2.1 5 (by decide)).trans C52, by omega, by omega, by omega⟩
  have row3 : ∀ x, x < 6 → nt (f_X6_wantSign (si (sa μ2 21 (nI e) (nI k)) 22 (nI (e + 1))) 59).1 (2130 + 6 * k + x) = nt μ2 (2130 + 6 * k + x) := fun x _ => nt_of G3.1 _
  generalize (f_X6_wantSign (si (sa μ2 21 (nI e) (nI k)) 22 (nI (e + 1))) 59).1 = μ3 at R1 FR3 top Y3 row3
  generalize (f_X7_close σ2).1 = σ3 at Y3 ⊢
  rcases ys_list hS 901 S A3 B3 n (k + 1) (c + 1) (e + 1) σ3 μ3 Y3 (by omega) (by omega) (by omega) with ⟨r1, m, r2, r3⟩ | ⟨l, σ4, r1, m, μ4, A4, B4, i, c4, r2, r3, r4, r5, r6, r7, r8⟩
  · rw [r1]
    exact Or.inl ⟨rfl, 1 + m, by omega, r3.pre R1 FR3⟩
  · rw [r1]
    dsimp only
    rw [Option.map_some]
    have Y4 := r4
    obtain ⟨T4, Z4, N4, P4, K4, E4, C4, C54, hk4, hc4, he4⟩ := r4
    have h41 : gi (own σ4) 3 = 1 := Classical.byContradiction (fun q => r5 ((isW_e (by omega) T4).1 q))
    have hw26 : f_X6_inWords μ4 = 26 := Classical.byContradiction (fun q => r5 ((wd T4 (i := 28) (by omega)).1.mpr q))
    have h43 : ¬ gi (own σ4) 3 = 0 := by rw [h41]; decide
    obtain ⟨b1, b2, b3, b4⟩ := hd_e (key := 26) (o := 0) (t := 0) (k := i) (by omega) K4
    obtain ⟨A5, B5, l5, T5, F5, G5, Z5, N5, P5⟩ := hd_st Y4 h41 26 0 0 _ (Or.inl rfl)
    have nb : ∀ j, j < 100000 → nt (f_X6_ahead (hdM μ4 26 i 0 0)) j = if j = 2009 then nI (i + 1) else if j = 2130 + 6 * i then 26 else if 2130 + 6 * i < j ∧ j < 2130 + 6 * i + 6 then 0 else nt μ4 j := fun j hj => (nt_of G5.1 j).trans (b4 j hj)
    have ey : yoM μ4 26 i 0 0 = (f_X6_ahead (hdM μ4 26 i 0 0), 1) := rfl
    have eC : f_X6_yearStep μ4 = f_X6_wantSign (popM (f_X6_ahead (hdM μ4 26 i 0 0)) i) 59 := by
      rw [yS_close K4 hw26 (fun z => by
        rw [E4] at z
        have := (nI_eq (a := e + 1) (b := 0) (by omega) (by omega)).mp z
        omega)]
      unfold cM
      rw [ey]
      dsimp only
      rw [if_neg (show ¬ (1 : Int32) = 0 by decide)]
    have E5 : gi (f_X6_ahead (hdM μ4 26 i 0 0)) 22 = nI (e + 1) := (G5.2 22 (by decide)).trans ((b1 22).trans ((if_neg (by omega)).trans E4))
    have C5' : gi (f_X6_ahead (hdM μ4 26 i 0 0)) 23 = nI c4 := (G5.2 23 (by decide)).trans ((b1 23).trans ((if_pos rfl).trans (by rw [C4, Int32.add_zero])))
    have top5 : ga (f_X6_ahead (hdM μ4 26 i 0 0)) 21 (nI e) = nI k := by
      refine (ga_2 G5.1 21 _).trans (Eq.trans ?_ ((r7.2.2.1 e (by omega)).trans top))
      unfold ga
      rw [b2 21 (by decide)]
    have g10 : gi (f_X6_ahead (hdM μ4 26 i 0 0)) 10 = gi μ4 10 := (g_ah _).trans ((b1 10).trans (if_neg (by omega)))
    have nm5 : (f_X6_ahead (hdM μ4 26 i 0 0)).2.2.2 = μ4.2.2.2 := by rw [G5.1, b3]
    have a21 : ∀ x, ga (f_X6_ahead (hdM μ4 26 i 0 0)) 21 x = ga μ4 21 x := fun x => by
      refine (ga_2 G5.1 21 _).trans ?_
      unfold ga
      rw [b2 21 (by decide)]
    generalize f_X6_ahead (hdM μ4 26 i 0 0) = μ5 at eC T5 Z5 N5 P5 nb E5 C5' top5 g10 nm5 a21
    have epop : popM μ5 i = sa (sa (si μ5 22 (nI e)) 0 (nI (2130 + 6 * i + 4)) (nI k)) 0 (nI (2130 + 6 * k + 4)) (nI i) := by
      unfold popM
      rw [E5, nI_pred]
      have q1 : gi (si μ5 22 (nI e)) 22 = nI e := rfl
      have q2 : ga (si μ5 22 (nI e)) 21 (nI e) = nI k := top5
      have q3 : ∀ v, gi (sa (si μ5 22 (nI e)) 0 (nI (2130 + 6 * i + 4)) v) 22 = nI e := fun _ => rfl
      have q4 : ∀ v, ga (sa (si μ5 22 (nI e)) 0 (nI (2130 + 6 * i + 4)) v) 21 (nI e) = nI k := fun v => (ga_sa_k (by decide)).trans top5
      rw [q1, q2, q3, q4, ix_r k, show nI (2130 + 6 * k) + (4 : Int32) = nI (2130 + 6 * k + 4) from nI_add _ 4]
    rw [epop] at eC
    have T6 : TK S A5 B5 (f_X7_next σ4) (sa (sa (si μ5 22 (nI e)) 0 (nI (2130 + 6 * i + 4)) (nI k)) 0 (nI (2130 + 6 * k + 4)) (nI i)) := ((T5.msi (by decide)).sa _ _).sa _ _
    have Z6 : Z0 (sa (sa (si μ5 22 (nI e)) 0 (nI (2130 + 6 * i + 4)) (nI k)) 0 (nI (2130 + 6 * k + 4)) (nI i)) := Z5
    have n6' : ∀ j, j < 100000 → nt (sa (sa (si μ5 22 (nI e)) 0 (nI (2130 + 6 * i + 4)) (nI k)) 0 (nI (2130 + 6 * k + 4)) (nI i)) j = if j = 2130 + 6 * k + 4 then nI i else if j = 2130 + 6 * i + 4 then nI k else nt μ5 j := fun j hj => by
      rw [nt_sa hj (by omega), nt_sa hj (by omega)]
      rfl
    have FR6 : YF k e μ (sa (sa (si μ5 22 (nI e)) 0 (nI (2130 + 6 * i + 4)) (nI k)) 0 (nI (2130 + 6 * k + 4)) (nI i)) := by
      refine ⟨fun j h1 h2 => ?_, ?_, fun x hx => ?_, ?_⟩
      · rw [n6' j (by omega), if_neg (by omega), if_neg (by omega), nb j (by omega), if_neg h2, if_neg (by omega), if_neg (by omega)]
        exact (r7.1 j (by omega) h2).trans (FR3.1 j h1 h2)
      · exact nm5.trans (r7.2.1.trans FR3.2.1)
      · exact (a21 _).trans ((r7.2.2.1 x (by omega)).trans (FR3.2.2.1 x hx))
      · exact g10.trans (r7.2.2.2.trans FR3.2.2.2)
    generalize hm6 : sa (sa (si μ5 22 (nI e)) 0 (nI (2130 + 6 * i + 4)) (nI k)) 0 (nI (2130 + 6 * k + 4)) (nI i) = μ6 at eC T6 Z6 n6' FR6
    have E6 : gi μ6 22 = nI e := by rw [← hm6]; rfl
    have C6 : gi μ6 23 = nI c4 := by rw [← hm6]; exact C5'
    have P6 : ga μ6 0 0 = nI n := (n6' 0 (by omega)).trans (by rw [if_neg (by omega), if_neg (by omega)]; exact P5)
    have N6 : NMS n 0 (ttb (f_X7_next σ4)) μ6 := N5.of rfl (by rw [← hm6]; rfl)
    unfold endP
    dsimp only
    have R2 := R1.tr r3
    rcases cl_st T6 Z6 with ⟨w1, w2, w3, w4⟩ | ⟨w1, w2, A7, B7, l7, T7, F7, G7⟩
    · rw [if_pos w1]
      have bad : RBAD 1 μ4 (f_X7_close (f_X7_next σ4)).1 := by
        refine RBAD.one T4 h43 eC w3 w2 (LK.e (w := μ6) ⟨fun j hj => ?_, fun j hj => ?_⟩ w4) ((g_ws _ _).trans ?_)
        · rw [n6' j (by omega), if_neg (by omega), if_neg (by omega), nb j (by omega), if_neg (by omega), if_neg (by omega), if_neg (by omega)]
        · unfold gb
          rw [show μ6.2.2.2 = μ4.2.2.2 from by rw [← hm6]; exact nm5]
        · rw [← hm6]; exact g10
      exact Or.inl (BADI (m := (1 + m) + 1) (by have := T4.2.2.2.1; omega) (bad.pre R2 (FR3.tr r7 (by omega) (by omega))))
    · rw [if_neg (nf w1)]
      have n7 : ∀ j, nt (f_X6_wantSign μ6 59).1 j = nt μ6 j := fun j => nt_of G7.1 j
      refine Or.inr ⟨_, rfl, (1 + m) + 1, (f_X6_wantSign μ6 59).1, A7, B7, i + 1, c4, by omega, by omega, R2.tr (RUN.one T4 h43 eC w2), ⟨T7, G7.f Z6, N6.nx F7.1 G7.1, (ga_2 G7.1 0 0).trans P6, ?_, (G7.2 22 (by decide)).trans E6, (G7.2 23 (by decide)).trans C6, ?_, by omega, by omega, by omega⟩, by omega, ⟨fun j h1 h2 => (n7 j).trans (FR6.1 j h1 h2), by rw [G7.1]; exact FR6.2.1, fun x hx => (ga_2 G7.1 21 _).trans (FR6.2.2.1 x hx), (g_ws _ _).trans FR6.2.2.2⟩, ?_⟩
      · rw [n7, n6' _ (by omega), if_neg (by omega), if_neg (by omega), nb _ (by omega), if_pos rfl]
      · rw [F7.2.1 5 (by decide), F5.2.1 5 (by decide)]
        exact C54
      · refine hST y μ2 _ l i y3 ((ga_2 G7.1 0 0).trans P6) (fun x hx hx4 => ?_) ?_ ?_ (by omega) ?_ ?_
        · rw [n7, n6' _ (by omega), if_neg (by omega), if_neg (by omega), nb _ (by omega), if_neg (by omega), if_neg (by omega), if_neg (by omega), r7.1 _ (by omega) (by omega)]
          exact row3 x hx
        · rw [n7, n6' _ (by omega), if_pos rfl]
        · have q : trR (shY μ4) (d + 1) l (k + 1) i := r8
          refine trR_tr (d + 1) l (k + 1) i ⟨fun x h1 h2 => ?_, ?_⟩ q
          · rw [sh_r (by omega) (by omega), sh_r (by omega) (by omega), n7, n6' _ (by omega), if_neg (by omega), if_neg (by omega), nb _ (by omega), if_neg (by omega), if_neg (by omega), if_neg (by omega)]
          · rw [sh_0, sh_0, ga_2 G7.1, P6, P4]
        · rw [n7, n6' _ (by omega), if_neg (by omega), if_neg (by omega), nb _ (by omega), if_neg (by omega), if_pos rfl]
        · rw [n7, n6' _ (by omega), if_neg (by omega), if_pos rfl]
end BLK
