/-! TEXTS: every step of a year; the year -/
set_option maxRecDepth 100000
section STSS
variable {S A B n k c e : Nat} {σ : MS × MS} {μ : MS}
theorem pn_rng {p : Nat} {x : Int32} (hn : n ≤ 6) (hp : p < n) (e : x = nI p) : 0 ≤ x.toInt ∧ x.toInt < (nI n).toInt := by
  rw [e, nI_toInt (by omega), nI_toInt (by omega)]
  omega
/-- a plain step -/
theorem stp_a {T9 : Type} (BB : MS → T9 → Nat → Nat → Prop) (h : YSt S A B n k c e σ μ) (he28 : 0 < e → f_X7_isWord σ 28 = 0) (he0 : e = 0 → ¬ gi (own σ) 3 = 0) (c24 : ¬ f_X6_inWords μ = 24) (c25 : ¬ f_X6_inWords μ = 25) :
    (((stpA σ : (MS × MS) × Option (ST T9)).2 = none ∧ ∃ m, m + A ≤ S + 1 ∧ RBAD m μ (stpA σ : (MS × MS) × Option (ST T9)).1) ∨
    (∃ x, (stpA σ : (MS × MS) × Option (ST T9)).2 = some x ∧ ∃ (m : Nat) (μ' : MS) (A' B' k' c' : Nat), A + m ≤ A' ∧ 1 ≤ m ∧ RUN m μ μ' ∧ YSt S A' B' n k' c' e (stpA σ : (MS × MS) × Option (ST T9)).1 μ' ∧ k ≤ k' ∧ YF k e μ μ' ∧ stR (shY μ') (BB μ') x k k')) := by
  have H := h
  obtain ⟨T, Z, N, P, K9, E22, C23, C5, hkc, hc, he⟩ := h
  have n6 := N.2.1
  have hAS := T.2.2.2.1
  have ea := act_e T
  have ea5 : f_X7_acts (lsi σ 5 (gi (own σ) 5 + 1)) = f_X7_acts σ := (act_e (T.osi (k := 5) (v := gi (own σ) 5 + 1) (by decide))).trans ea.symm
  -- an act's word
  have ACT : ∀ (key w : Int32), f_X6_inWords μ = key → f_X7_acts σ = w → 0 ≤ w → ¬ key = -1 → ¬ key < 17 → ¬ 27 < key → ¬ key = 22 → ¬ key = 23 → ¬ key = 24 → ¬ key = 25 → ¬ key = 26 → ∀ (R : Int32 × Int32 × Int32 × Int32 → MS → Prop),
      (k < 60 → ∀ A1 B1, A < A1 → TK S A1 B1 (f_X7_next (lsi σ 5 (gi (own σ) 5 + 1))) (f_X6_ahead (hdM μ key k 0 1)) → Z0 (f_X6_ahead (hdM μ key k 0 1)) → NMS n 0 (ttb (f_X7_next (lsi σ 5 (gi (own σ) 5 + 1)))) (f_X6_ahead (hdM μ key k 0 1)) → ga (f_X6_ahead (hdM μ key k 0 1)) 0 0 = nI n → nt (f_X6_ahead (hdM μ key k 0 1)) (2130 + 6 * k) = key → YO S A1 (2130 + 6 * k) (f_X7_next (lsi σ 5 (gi (own σ) 5 + 1))) (f_X6_ahead (hdM μ key k 0 1)) (f_X7_plain (lsi σ 5 (gi (own σ) 5 + 1))) (yoM μ key k 0 1) R) → (∀ v u, R v u → ga u 0 0 = nI n → actR (shY u) v (rowI (nI k))) → (∀ v u u', R v u → u'.2 = u.2 → R v u') →
      (((stpA σ : (MS × MS) × Option (ST T9)).2 = none ∧ ∃ m, m + A ≤ S + 1 ∧ RBAD m μ (stpA σ : (MS × MS) × Option (ST T9)).1) ∨
      (∃ x, (stpA σ : (MS × MS) × Option (ST T9)).2 = some x ∧ ∃ (m : Nat) (μ' : MS) (A' B' k' c' : Nat), A + m ≤ A' ∧ 1 ≤ m ∧ RUN m μ μ' ∧ YSt S A' B' n k' c' e (stpA σ : (MS × MS) × Option (ST T9)).1 μ' ∧ k ≤ k' ∧ YF k e μ μ' ∧ stR (shY μ') (BB μ') x k k')) := by
    intro key w hk hw hw0 hm1 q1 q2 q3 q4 q5 q6 q7 R hY hR hRe
    have h1 : gi (own σ) 3 = 1 := by
      rcases inW_rng T with q | ⟨_, -, -, q, -⟩
      · exact (hm1 (hk.symm.trans q)).elim
      · exact q
    by_cases c30 : gi (own σ) 5 = 30
    · have e1 : (stpA σ : (MS × MS) × Option (ST T9)) = (f_X2_at σ 6 (gi (own σ) 1), none) := by
        unfold stpA
        rw [hw, if_pos hw0, if_pos c30]
      have t := ft_at T Z (w10 h1) 6 (by decide)
      rw [e1]
      exact Or.inl ⟨rfl, 1, by omega, RBAD.one T (by rw [h1]; decide) (yS_over hk q1 q2 q3 q4 q7 (by rw [C23, ← C5]; exact c30)) t.2.1 t.1 (LK.rf.e t.2.2) (g_fl _ _)⟩
    · have e1 : (stpA σ : (MS × MS) × Option (ST T9)) = endP ((f_X7_plain (lsi σ 5 (gi (own σ) 5 + 1))).2.map Sum.inl) (f_X7_plain (lsi σ 5 (gi (own σ) 5 + 1))).1 := by
        unfold stpA
        rw [hw, if_pos hw0, if_neg c30]
      have c29 : ¬ c = 30 := fun z => c30 (by rw [C5, z]; rfl)
      have k60 : k < 60 := by omega
      exact act_st H h1 key hk q1 q2 q3 q4 q5 q6 q7 (by rw [C23, ← C5]; exact c30) (hY k60) hR hRe BB _ e1
  have k1000 : k < 1000 := by omega
  have r0 : ∀ u : MS, ga (shY u) 0 (rowI (nI k)) = nt u (2130 + 6 * k) := fun u => sh_k k1000
  have r1 : ∀ u : MS, ga (shY u) 0 (rowI (nI k) + 1) = nt u (2130 + 6 * k + 1) := fun u => sh_i 1 k1000 (by omega)
  have r2 : ∀ u : MS, ga (shY u) 0 (rowI (nI k) + 2) = nt u (2130 + 6 * k + 2) := fun u => sh_i 2 k1000 (by omega)
  have r3 : ∀ u : MS, ga (shY u) 0 (rowI (nI k) + 3) = nt u (2130 + 6 * k + 3) := fun u => sh_i 3 k1000 (by omega)
  by_cases c17 : f_X6_inWords μ = 17
  · refine ACT 17 0 c17 (by rw [ea, if_pos c17]) (by decide) (by decide) (by decide) (by decide) (by decide) (by decide) (by decide) (by decide) (by decide) (fun v u => v.1 = 0 ∧ nt u (2130 + 6 * k) = 17 ∧ nt u (2130 + 6 * k + 1) = v.2.1 ∧ (v.2.1 = -1 ∨ ∃ p, p < n ∧ v.2.1 = nI p)) (fun k60 A1 B1 l T1 Z1 N1 P1 c1 => ?_) (fun v u hv hu => ?_) (fun v u u' hv hu => ?_)
    · have e1 : f_X7_plain (lsi σ 5 (gi (own σ) 5 + 1)) = plnP (f_X7_next (lsi σ 5 (gi (own σ) 5 + 1))) 0 := by
        unfold f_X7_plain
        rw [ea5, ea, if_pos c17]
        exact if_pos rfl
      rw [e1]
      exact (pay_y T1 Z1 N1 P1 (by omega) 0).mono (Nat.le_refl _) (fun v u hv => ⟨hv.1, hv.2.1.trans c1, hv.2.2⟩)
    · obtain ⟨a1, a2, a3, a4⟩ := hv
      refine Or.inl ⟨(r0 u).trans a2, a1, (r1 u).trans a3, ?_⟩
      rw [sh_0, hu]
      rcases a4 with z | ⟨p, hp, z⟩
      · rw [z, z_m1, nI_toInt (by omega)]; omega
      · have := pn_rng n6 hp z; omega
    · exact ⟨hv.1, (nt_of hu _).trans hv.2.1, (nt_of hu _).trans hv.2.2.1, hv.2.2.2⟩
  by_cases c18 : f_X6_inWords μ = 18
  · refine ACT 18 1 c18 (by rw [ea, if_neg c17, if_pos c18]) (by decide) (by decide) (by decide) (by decide) (by decide) (by decide) (by decide) (by decide) (by decide) (fun v u => v.1 = 1 ∧ nt u (2130 + 6 * k) = 18 ∧ nt u (2130 + 6 * k + 1) = v.2.1 ∧ nt u (2130 + 6 * k + 2) = v.2.2.1 ∧ (∃ p, p < n ∧ v.2.1 = nI p) ∧ ∃ p, p < n ∧ v.2.2.1 = nI p) (fun k60 A1 B1 l T1 Z1 N1 P1 c1 => ?_) (fun v u hv hu => ?_) (fun v u u' hv hu => ?_)
    · have e1 : f_X7_plain (lsi σ 5 (gi (own σ) 5 + 1)) = plnA (f_X7_next (lsi σ 5 (gi (own σ) 5 + 1))) 1 := by
        unfold f_X7_plain
        rw [ea5, ea, if_neg c17, if_pos c18]
        rw [if_neg (by decide), if_neg (by decide), if_neg (by decide)]
      rw [e1]
      exact (duel_y T1 Z1 N1 P1 (by omega)).mono (Nat.le_refl _) (fun v u hv => ⟨hv.1, hv.2.1.trans c1, hv.2.2⟩)
    · obtain ⟨a1, a2, a3, a4, ⟨p, hp, b1⟩, q, hq, b2⟩ := hv
      refine Or.inr (Or.inl ⟨(r0 u).trans a2, a1, ⟨(r1 u).trans a3, ?_⟩, (r2 u).trans a4, ?_⟩)
      · rw [sh_0, hu]; exact pn_rng n6 hp b1
      · rw [sh_0, hu]; exact pn_rng n6 hq b2
    · exact ⟨hv.1, (nt_of hu _).trans hv.2.1, (nt_of hu _).trans hv.2.2.1, (nt_of hu _).trans hv.2.2.2.1, hv.2.2.2.2⟩
  have LG : ∀ key w : Int32, ((w = 2 ∧ key = 19) ∨ (w = 3 ∧ key = 20)) → f_X6_inWords μ = key → f_X7_acts σ = w → _ := fun key w hkw hk hw => by
    refine ACT key w hk hw (by rcases hkw with ⟨z, -⟩ | ⟨z, -⟩ <;> rw [z] <;> decide) (by rcases hkw with ⟨-, z⟩ | ⟨-, z⟩ <;> rw [z] <;> decide) (by rcases hkw with ⟨-, z⟩ | ⟨-, z⟩ <;> rw [z] <;> decide) (by rcases hkw with ⟨-, z⟩ | ⟨-, z⟩ <;> rw [z] <;> decide) (by rcases hkw with ⟨-, z⟩ | ⟨-, z⟩ <;> rw [z] <;> decide) (by rcases hkw with ⟨-, z⟩ | ⟨-, z⟩ <;> rw [z] <;> decide) (by rcases hkw with ⟨-, z⟩ | ⟨-, z⟩ <;> rw [z] <;> decide) (by rcases hkw with ⟨-, z⟩ | ⟨-, z⟩ <;> rw [z] <;> decide) (by rcases hkw with ⟨-, z⟩ | ⟨-, z⟩ <;> rw [z] <;> decide) (fun v u => v.1 = w ∧ nt u (2130 + 6 * k) = key ∧ nt u (2130 + 6 * k + 1) = v.2.1 ∧ nt u (2130 + 6 * k + 2) = v.2.2.1 ∧ nt u (2130 + 6 * k + 3) = v.2.2.2 ∧ (∃ p, p < n ∧ v.2.1 = nI p) ∧ (∃ p, p < n ∧ v.2.2.1 = nI p) ∧ 1 ≤ v.2.2.2.toInt ∧ v.2.2.2.toInt ≤ 999) (fun k60 A1 B1 l T1 Z1 N1 P1 c1 => ?_) (fun v u hv hu => ?_) (fun v u u' hv hu => ?_)
    · have e1 : f_X7_plain (lsi σ 5 (gi (own σ) 5 + 1)) = plnA (f_X7_next (lsi σ 5 (gi (own σ) 5 + 1))) w := by
        unfold f_X7_plain
        rw [ea5, hw]
        rcases hkw with ⟨z, -⟩ | ⟨z, -⟩ <;> rw [z, if_neg (by decide), if_neg (by decide), if_neg (by decide)]
      rw [e1]
      exact (lend_y T1 Z1 N1 P1 (by omega) hkw).mono (Nat.le_refl _) (fun v u hv => ⟨hv.1, hv.2.1.trans c1, hv.2.2⟩)
    · obtain ⟨a1, a2, a3, a4, a5, ⟨p, hp, b1⟩, ⟨q, hq, b2⟩, b3, b4⟩ := hv
      refine Or.inr (Or.inr (Or.inl ⟨?_, ⟨(r1 u).trans a3, ?_⟩, ⟨(r2 u).trans a4, ?_⟩, (r3 u).trans a5, by omega, by omega⟩))
      · rcases hkw with ⟨z, z2⟩ | ⟨z, z2⟩
        · exact Or.inl ⟨(r0 u).trans (a2.trans z2), a1.trans z⟩
        · exact Or.inr ⟨(r0 u).trans (a2.trans z2), a1.trans z⟩
      · rw [sh_0, hu]; exact pn_rng n6 hp b1
      · rw [sh_0, hu]; exact pn_rng n6 hq b2
    · exact ⟨hv.1, (nt_of hu _).trans hv.2.1, (nt_of hu _).trans hv.2.2.1, (nt_of hu _).trans hv.2.2.2.1, (nt_of hu _).trans hv.2.2.2.2.1, hv.2.2.2.2.2⟩
  by_cases c19 : f_X6_inWords μ = 19
  · exact LG 19 2 (Or.inl ⟨rfl, rfl⟩) c19 (by rw [ea, if_neg c17, if_neg c18, if_pos c19])
  by_cases c20 : f_X6_inWords μ = 20
  · exact LG 20 3 (Or.inr ⟨rfl, rfl⟩) c20 (by rw [ea, if_neg c17, if_neg c18, if_neg c19, if_pos c20])
  by_cases c21 : f_X6_inWords μ = 21
  · refine ACT 21 4 c21 (by rw [ea, if_neg c17, if_neg c18, if_neg c19, if_neg c20, if_pos c21]) (by decide) (by decide) (by decide) (by decide) (by decide) (by decide) (by decide) (by decide) (by decide) (fun v u => v.1 = 4 ∧ nt u (2130 + 6 * k) = 21) (fun k60 A1 B1 l T1 Z1 N1 P1 c1 => ?_) (fun v u hv hu => Or.inr (Or.inr (Or.inr (Or.inl ⟨(r0 u).trans hv.2, hv.1⟩)))) (fun v u u' hv hu => ⟨hv.1, (nt_of hu _).trans hv.2⟩)
    have e1 : f_X7_plain (lsi σ 5 (gi (own σ) 5 + 1)) = (f_X7_next (lsi σ 5 (gi (own σ) 5 + 1)), some (4, -1, -1, 0)) := by
      unfold f_X7_plain
      rw [ea5, ea, if_neg c17, if_neg c18, if_neg c19, if_neg c20, if_pos c21]
      rw [if_neg (by decide), if_pos rfl]
    have e2 : yoM μ 21 k 0 1 = (f_X6_ahead (hdM μ 21 k 0 1), 1) := rfl
    rw [e1, e2]
    exact YO.r (A' := A1) (B' := B1) rfl ⟨rfl, c1⟩ WR.rf (fun _ _ => rfl) (Nat.le_refl _) T1 NXF.rf
  by_cases c27 : f_X6_inWords μ = 27
  · refine ACT 27 5 c27 (by rw [ea, if_neg c17, if_neg c18, if_neg c19, if_neg c20, if_neg c21, if_pos c27]) (by decide) (by decide) (by decide) (by decide) (by decide) (by decide) (by decide) (by decide) (by decide) (fun v u => v.1 = 5 ∧ nt u (2130 + 6 * k) = 27) (fun k60 A1 B1 l T1 Z1 N1 P1 c1 => ?_) (fun v u hv hu => Or.inr (Or.inr (Or.inr (Or.inr ⟨(r0 u).trans hv.2, hv.1⟩)))) (fun v u u' hv hu => ⟨hv.1, (nt_of hu _).trans hv.2⟩)
    have e1 : f_X7_plain (lsi σ 5 (gi (own σ) 5 + 1)) = (f_X7_next (lsi σ 5 (gi (own σ) 5 + 1)), some (5, -1, -1, 0)) := by
      unfold f_X7_plain
      rw [ea5, ea, if_neg c17, if_neg c18, if_neg c19, if_neg c20, if_neg c21, if_pos c27]
      rw [if_neg (by decide), if_neg (by decide), if_pos rfl]
    have e2 : yoM μ 27 k 0 1 = (f_X6_ahead (hdM μ 27 k 0 1), 1) := rfl
    rw [e1, e2]
    exact YO.r (A' := A1) (B' := B1) rfl ⟨rfl, c1⟩ WR.rf (fun _ _ => rfl) (Nat.le_refl _) T1 NXF.rf
  -- no step's word
  have e1 : (stpA σ : (MS × MS) × Option (ST T9)) = (f_X7_wrong σ, none) := by
    unfold stpA
    rw [ea, if_neg c17, if_neg c18, if_neg c19, if_neg c20, if_neg c21, if_neg c27]
    exact if_neg (by decide)
  rw [e1]
  refine Or.inl ⟨rfl, ?_⟩
  by_cases c0 : gi (own σ) 3 = 0
  · have hee : 0 < e := by
      rcases Nat.eq_zero_or_pos e with z | z
      · exact (he0 z c0).elim
      · exact z
    exact ⟨0, by omega, RBAD.fin T Z c0 E22 ⟨hee, he⟩⟩
  · have t := ft_wrong T Z
    refine ⟨1, by omega, RBAD.one T c0 (yS_bad rfl ?_) t.2.1 t.1 (LK.rf.e t.2.2) (g_fl _ _)⟩
    rcases inW_rng T with q | ⟨w, hw, q, -, -⟩
    · exact Or.inl (by rw [q]; decide)
    · by_cases c26 : f_X6_inWords μ = 26
      · refine Or.inr (Or.inr (Or.inr (Or.inr ⟨c26, ?_⟩)))
        rcases Nat.eq_zero_or_pos e with z | z
        · rw [E22, z]; rfl
        · exact ((wd T (i := 28) (by omega)).1.mp (he28 z) c26).elim
      · have x17 : ¬ w = 17 := fun z => c17 (by rw [q, z]; rfl)
        have x18 : ¬ w = 18 := fun z => c18 (by rw [q, z]; rfl)
        have x19 : ¬ w = 19 := fun z => c19 (by rw [q, z]; rfl)
        have x20 : ¬ w = 20 := fun z => c20 (by rw [q, z]; rfl)
        have x21 : ¬ w = 21 := fun z => c21 (by rw [q, z]; rfl)
        have x24 : ¬ w = 24 := fun z => c24 (by rw [q, z]; rfl)
        have x25 : ¬ w = 25 := fun z => c25 (by rw [q, z]; rfl)
        have x26 : ¬ w = 26 := fun z => c26 (by rw [q, z]; rfl)
        have x27 : ¬ w = 27 := fun z => c27 (by rw [q, z]; rfl)
        rcases (show w < 17 ∨ w = 22 ∨ w = 23 ∨ w = 28 by omega) with z | z | z | z
        · exact Or.inl (by rw [q]; exact nI_lt (b := 17) z (by omega))
        · exact Or.inr (Or.inr (Or.inl (by rw [q, z]; rfl)))
        · exact Or.inr (Or.inr (Or.inr (Or.inl (by rw [q, z]; rfl))))
        · exact Or.inr (Or.inl (by rw [q, z]; decide))
end STSS
theorem w26 {S A B : Nat} {σ : MS × MS} {μ : MS} (T : TK S A B σ μ) : f_X7_isWord σ 26 = 0 ↔ ¬ f_X6_inWords μ = 24 := (wd T (i := 26) (by omega)).1
theorem w27 {S A B : Nat} {σ : MS × MS} {μ : MS} (T : TK S A B σ μ) : f_X7_isWord σ 27 = 0 ↔ ¬ f_X6_inWords μ = 25 := (wd T (i := 27) (by omega)).1
theorem stp_e {S A B : Nat} {σ : MS × MS} {μ : MS} (T : TK S A B σ μ) {T9 : Type} (deep : Bool) (L : MS × MS → (MS × MS) × Option T9) : ((¬ f_X6_inWords μ = 24 ∧ ¬ f_X6_inWords μ = 25) ∧ stpP deep L σ = stpA σ) ∨ ((f_X6_inWords μ = 24 ∨ f_X6_inWords μ = 25) ∧ stpP deep L σ = stpB deep L σ) := by
  unfold stpP
  by_cases c24 : f_X6_inWords μ = 24
  · rw [if_neg (fun q => (w26 T).mp q c24)]
    exact Or.inr ⟨Or.inl c24, rfl⟩
  · rw [if_pos ((w26 T).mpr c24)]
    by_cases c25 : f_X6_inWords μ = 25
    · rw [if_neg (fun q => (w27 T).mp q c25)]
      exact Or.inr ⟨Or.inr c25, rfl⟩
    · rw [if_pos ((w27 T).mpr c25)]
      exact Or.inl ⟨⟨c24, c25⟩, rfl⟩
theorem blk_1 {S A B : Nat} {σ : MS × MS} {μ : MS} (T : TK S A B σ μ) {key : Int32} (hk : f_X6_inWords μ = key) (h : key = 24 ∨ key = 25) : gi (own σ) 3 = 1 := by
  rcases inW_rng T with q | ⟨_, -, -, q, -⟩
  · rcases h with z | z <;> rw [hk, z] at q <;> exact absurd q (by decide)
  · exact q
theorem sts_0 : STS 0 := by
  intro S A B n k c e σ μ h hed he28 he0
  have H := h
  obtain ⟨T, Z, N, P, K9, E22, C23, C5, hkc, hc, he⟩ := h
  have hAS := T.2.2.2.1
  rcases stp_e T true (fun σ => ((σ, none) : (MS × MS) × Option (TR 0))) with ⟨⟨c24, c25⟩, es⟩ | ⟨hb, es⟩
  · have es' : stP 0 σ = stpA σ := es
    rw [es']
    exact stp_a (fun μ' => trR (shY μ') 0) H he28 he0 c24 c25
  · have h1 := blk_1 T rfl hb
    have hb17 : ¬ f_X6_inWords μ < 17 ∧ ¬ 27 < f_X6_inWords μ ∧ ¬ f_X6_inWords μ = 22 ∧ ¬ f_X6_inWords μ = 23 ∧ ¬ f_X6_inWords μ = 26 := by
      rcases hb with z | z <;> rw [z] <;> decide
    have es' : stP 0 σ = stpB true (fun σ => ((σ, none) : (MS × MS) × Option (TR 0))) σ := es
    rw [es']
    unfold stpB
    have h3 : ¬ gi (own σ) 3 = 0 := by rw [h1]; decide
    by_cases c30 : gi (own σ) 5 = 30
    · rw [if_pos c30]
      have t := ft_at T Z (w10 h1) 6 (by decide)
      exact Or.inl ⟨rfl, 1, by omega, RBAD.one T h3 (yS_over rfl hb17.1 hb17.2.1 hb17.2.2.1 hb17.2.2.2.1 hb17.2.2.2.2 (by rw [C23, ← C5]; exact c30)) t.2.1 t.1 (LK.rf.e t.2.2) (g_fl _ _)⟩
    · rw [if_neg c30, if_pos rfl]
      have t := ft_at T Z (w10 h1) 7 (by decide)
      exact Or.inl ⟨rfl, 1, by omega, RBAD.one T h3 (yS_deep rfl hb (by rw [C23, ← C5]; exact c30) (by rw [E22, show e = 3 by omega]; rfl)) t.2.1 t.1 (LK.rf.e t.2.2) (g_fl _ _)⟩
theorem sts_s {d : Nat} (hS : STS d) : STS (d + 1) := by
  intro S A B n k c e σ μ h hed he28 he0
  have H := h
  obtain ⟨T, Z, N, P, K9, E22, C23, C5, hkc, hc, he⟩ := h
  have hAS := T.2.2.2.1
  have n6 := N.2.1
  have k1000 : k < 1000 := by omega
  rcases stp_e T false (fun σ => (lstP (stP d) 901 σ : (MS × MS) × Option (TR (d + 1)))) with ⟨⟨c24, c25⟩, es⟩ | ⟨hb, es⟩
  · have es' : stP (d + 1) σ = stpA σ := es
    rw [es']
    exact stp_a (fun μ' => trR (shY μ') (d + 1)) H he28 he0 c24 c25
  · have h1 := blk_1 T rfl hb
    have h3 : ¬ gi (own σ) 3 = 0 := by rw [h1]; decide
    have hb17 : ¬ f_X6_inWords μ < 17 ∧ ¬ 27 < f_X6_inWords μ ∧ ¬ f_X6_inWords μ = 22 ∧ ¬ f_X6_inWords μ = 23 ∧ ¬ f_X6_inWords μ = 26 := by
      rcases hb with z | z <;> rw [z] <;> decide
    have es' : stP (d + 1) σ = stpB false (fun σ => (lstP (stP d) 901 σ : (MS × MS) × Option (TR (d + 1)))) σ := es
    by_cases c30 : gi (own σ) 5 = 30
    · have e1 : stP (d + 1) σ = (f_X2_at σ 6 (gi (own σ) 1), none) := by
        rw [es']
        unfold stpB
        rw [if_pos c30]
        rfl
      have t := ft_at T Z (w10 h1) 6 (by decide)
      rw [e1]
      exact Or.inl ⟨rfl, 1, by omega, RBAD.one T h3 (yS_over rfl hb17.1 hb17.2.1 hb17.2.2.1 hb17.2.2.2.1 hb17.2.2.2.2 (by rw [C23, ← C5]; exact c30)) t.2.1 t.1 (LK.rf.e t.2.2) (g_fl _ _)⟩
    · have w5 : f_X7_isWord (lsi σ 5 (gi (own σ) 5 + 1)) 26 = f_X7_isWord σ 26 := by
        rcases hb with z | z
        · have a := (wd T (i := 26) (by omega)).2
          have b := (wd (T.osi (k := 5) (v := gi (own σ) 5 + 1) (by decide)) (i := 26) (by omega)).2
          have a1 := (fun w9 => (w26 T).mp w9 z)
          have b1 := (fun w9 => (w26 (T.osi (k := 5) (v := gi (own σ) 5 + 1) (by decide))).mp w9 z)
          rw [a.resolve_left a1, b.resolve_left b1]
        · have ne : ¬ f_X6_inWords μ = 24 := by rw [z]; decide
          rw [(w26 T).mpr ne, (w26 (T.osi (k := 5) (v := gi (own σ) 5 + 1) (by decide))).mpr ne]
      have e1 : stP (d + 1) σ = endP (blkP (fun σ => (lstP (stP d) 901 σ : (MS × MS) × Option (TR (d + 1)))) (f_X7_isWord σ 26) (lsi σ 5 (gi (own σ) 5 + 1))).2 (blkP (fun σ => (lstP (stP d) 901 σ : (MS × MS) × Option (TR (d + 1)))) (f_X7_isWord σ 26) (lsi σ 5 (gi (own σ) 5 + 1))).1 := by
        rw [es']
        unfold stpB
        rw [if_neg c30]
        exact if_neg Bool.false_ne_true
      have h30 : ¬ gi μ 23 = 30 := by rw [C23, ← C5]; exact c30
      have c29 : ¬ c = 30 := fun z => c30 (by rw [C5, z]; rfl)
      have k60 : k < 60 := by omega
      have r0 : ∀ u : MS, ga (shY u) 0 (rowI (nI k)) = nt u (2130 + 6 * k) := fun u => sh_k k1000
      have r1 : ∀ u : MS, ga (shY u) 0 (rowI (nI k) + 1) = nt u (2130 + 6 * k + 1) := fun u => sh_i 1 k1000 (by omega)
      have r2 : ∀ u : MS, ga (shY u) 0 (rowI (nI k) + 2) = nt u (2130 + 6 * k + 2) := fun u => sh_i 2 k1000 (by omega)
      have r3 : ∀ u : MS, ga (shY u) 0 (rowI (nI k) + 3) = nt u (2130 + 6 * k + 3) := fun u => sh_i 3 k1000 (by omega)
      have r4 : ∀ u : MS, ga (shY u) 0 (rowI (nI k) + 4) = nt u (2130 + 6 * k + 4) := fun u => sh_i 4 k1000 (by omega)
      have r5 : ∀ u : MS, ga (shY u) 0 (rowI (nI k) + 5) = nt u (2130 + 6 * k + 5) := fun u => sh_i 5 k1000 (by omega)
      by_cases c24 : f_X6_inWords μ = 24
      · have wn : ¬ f_X7_isWord σ 26 = 0 := fun q => (w26 T).mp q c24
        have ey : yoM μ 24 k 1 1 = f_X6_test (f_X6_ahead (hdM μ 24 k 1 1)) (nI (2130 + 6 * k)) := by
          unfold yoM f_X6_yearOrder
          rw [if_neg (by decide), if_neg (by decide), if_neg (by decide), if_neg (by decide), if_neg (by decide), if_neg (by decide), if_neg (by decide), if_pos rfl]
        refine blk_st hS H hed h1 24 c24 (Or.inl rfl) h30 (f_X7_when (f_X7_next (lsi σ 5 (gi (own σ) 5 + 1)))) (fun y l => (Sum.inr (Sum.inr (y, (l : TR (d + 1)))) : ST (TR (d + 1)))) (R := (fun (y : Int32 × Int32 × Int32 × Int32 × Int32) (u : MS) => ((nt u (2130 + 6 * k) = 2428 ∧ y.1 = 0 ∧ nt u (2130 + 6 * k + 5) = y.2.2.2.1 ∧ nt u (2130 + 6 * k + 3) = y.2.2.2.2) ∨ (nt u (2130 + 6 * k) = 2403 ∧ y.1 = 1 ∧ (nt u (2130 + 6 * k + 2) = y.2.2.1 ∧ ∃ p, p < n ∧ y.2.2.1 = nI p) ∧ nt u (2130 + 6 * k + 5) = y.2.2.2.1 ∧ nt u (2130 + 6 * k + 3) = y.2.2.2.2) ∨ (nt u (2130 + 6 * k) = 2415 ∧ y.1 = 2)) ∧ nt u (2130 + 6 * k + 1) = y.2.1 ∧ ∃ p, p < n ∧ y.2.1 = nI p)) (fun A1 B1 l T1 Z1 N1 P1 q1 => by rw [ey]; exact test_y T1 Z1 N1 P1 (by omega)) (fun y u u' l i hR hu hx h4 hl hi hi0 hi4 => ?_) (stP (d + 1) σ) ?_
        · obtain ⟨a1, a2, p, hp, a3⟩ := hR
          have x0 := hx 0 (by omega) (by omega)
          have x1 := hx 1 (by omega) (by omega)
          have x2 := hx 2 (by omega) (by omega)
          have x3 := hx 3 (by omega) (by omega)
          have x5 := hx 5 (by omega) (by omega)
          refine ⟨⟨?_, (r1 u').trans (x1.trans a2), by rw [sh_0, hu]; exact pn_rng n6 hp a3⟩, i, hl, rfl, (sh_k hi).trans hi0, (sh_i 4 hi (by omega)).trans hi4, (r4 u').trans h4⟩
          rcases a1 with ⟨b1, b2, b3, b4⟩ | ⟨b1, b2, ⟨b5, q, hq, b6⟩, b3, b4⟩ | ⟨b1, b2⟩
          · exact Or.inl ⟨(r0 u').trans (x0.trans b1), b2, (r5 u').trans (x5.trans b3), (r3 u').trans (x3.trans b4)⟩
          · exact Or.inr (Or.inl ⟨(r0 u').trans (x0.trans b1), b2, ⟨(r2 u').trans (x2.trans b5), by rw [sh_0, hu]; exact pn_rng n6 hq b6⟩, (r5 u').trans (x5.trans b3), (r3 u').trans (x3.trans b4)⟩)
          · exact Or.inr (Or.inr ⟨(r0 u').trans (x0.trans b1), b2⟩)
        · rw [e1]
          unfold blkP
          rw [if_neg wn]
          unfold whbP
          generalize f_X7_when (f_X7_next (lsi σ 5 (gi (own σ) 5 + 1))) = wz
          obtain ⟨wz1, wz2⟩ := wz
          cases wz2 with
          | none => rfl
          | some y => rfl
      · have c25 := hb.resolve_left c24
        have wn : f_X7_isWord σ 26 = 0 := (w26 T).mpr c24
        refine blk_st hS H hed h1 25 c25 (Or.inr rfl) h30 ((f_X7_number (f_X7_next (lsi σ 5 (gi (own σ) 5 + 1))) 1 99).1.1, if (f_X7_number (f_X7_next (lsi σ 5 (gi (own σ) 5 + 1))) 1 99).2 = true then none else some (f_X7_number (f_X7_next (lsi σ 5 (gi (own σ) 5 + 1))) 1 99).1.2) (fun y l => (Sum.inr (Sum.inl (y, (l : TR (d + 1)))) : ST (TR (d + 1)))) (R := fun y u => nt u (2130 + 6 * k) = 25 ∧ nt u (2130 + 6 * k + 1) = y ∧ 1 ≤ y.toInt ∧ y.toInt ≤ 99) (fun A1 B1 l T1 Z1 N1 P1 q1 => ?_) (fun y u u' l i hR hu hx h4 hl hi hi0 hi4 => ?_) (stP (d + 1) σ) ?_
        · have i1 : nI (2130 + 6 * k) + (1 : Int32) = nI (2130 + 6 * k + 1) := nI_1 _
          have ey : yoM μ 25 k 1 1 = f_X6_number (f_X6_ahead (hdM μ 25 k 1 1)) (nI (2130 + 6 * k + 1)) 1 99 := by
            unfold yoM f_X6_yearOrder
            rw [if_neg (by decide), if_neg (by decide), if_neg (by decide), if_neg (by decide), if_neg (by decide), if_neg (by decide), if_neg (by decide), if_neg (by decide), if_pos rfl, i1]
          rw [ey]
          rcases nu_st T1 Z1 1 99 (nI (2130 + 6 * k + 1)) with ⟨v1, v2, v3, v4⟩ | ⟨v1, v2, A2, B2, v, l2, ev, hv, T2, F2, G2⟩
          · rw [if_pos v1]
            exact YO.f v2 v3 (WR.rf.e v4 (g_nu _ _ _ _))
          · rw [if_neg (nf v1), ev]
            refine YO.g (A' := A2) (B' := B2) v2 ⟨?_, ?_, hv⟩ (WR.rf.se (k := 2130 + 6 * k + 1) (v := v) (by omega) (by omega) G2.1 (g_nu _ _ _ _)) (gsa G2) (by omega) T2 F2
            · rw [nt_of G2.1, nt_ne (by omega) (by omega) (by omega)]; exact q1
            · rw [nt_of G2.1]; exact nt_eq rfl
        · obtain ⟨a1, a2, a3⟩ := hR
          exact ⟨⟨(r0 u').trans ((hx 0 (by omega) (by omega)).trans a1), (r1 u').trans ((hx 1 (by omega) (by omega)).trans a2), a3⟩, i, hl, rfl, (sh_k hi).trans hi0, (sh_i 4 hi (by omega)).trans hi4⟩
        · rw [e1]
          unfold blkP
          rw [if_pos wn]
          unfold lopP
          by_cases cn : (f_X7_number (f_X7_next (lsi σ 5 (gi (own σ) 5 + 1))) 1 99).2 = true
          · rw [if_pos cn, if_pos cn]
            rfl
          · rw [if_neg cn, if_neg cn]
            rfl
theorem sts : ∀ d, STS d
  | 0 => sts_0
  | d + 1 => sts_s (sts d)
/-- all steps of a text -/
theorem ys_year : ∀ (N S A B n k c : Nat) (σ : MS × MS) (μ : MS), YSt S A B n k c 0 σ μ → S < N + A →
  ((yrP N σ).2 = none ∧ ∃ m, m + A ≤ S + 1 ∧ RBAD m μ (yrP N σ).1) ∨
  (∃ (l : List (ST (TR 3))), (yrP N σ).2 = some l ∧ ∃ (m : Nat) (μ' : MS) (A' B' k' c' : Nat), A + m ≤ A' ∧ RUN m μ μ' ∧ YSt S A' B' n k' c' 0 (yrP N σ).1 μ' ∧ gi (own (yrP N σ).1) 3 = 0 ∧ k ≤ k' ∧ YF k 0 μ μ' ∧ sqR (shY μ') (trR (shY μ') 3) l k k') := by
  intro N
  induction N with
  | zero =>
    intro S A B n k c σ μ h hN
    have := h.1.2.2.2.1
    omega
  | succ N ih =>
    intro S A B n k c σ μ h hN
    have hk9 : k < 1000 := by have := h.2.2.2.2.2.2.2.2; omega
    rw [yrP]
    by_cases w : gi (own σ) 3 = 0
    · rw [if_pos w]
      exact Or.inr ⟨[], rfl, 0, μ, A, B, k, c, by omega, RUN.rf, h, w, Nat.le_refl _, YF.rf, rfl⟩
    · rw [if_neg w]
      rcases sts 3 S A B n k c 0 σ μ h (by omega) (fun z => absurd z (by omega)) (fun _ => w) with ⟨q1, m, q2, q3⟩ | ⟨x, q1, m, μ', A', B', k', c', q2, q3, q4, q5, q6, q7, q8⟩
      · rw [q1]
        exact Or.inl ⟨rfl, m, q2, q3⟩
      · rw [q1]
        dsimp only
        have hk9' : k' < 1000 := by have := q5.2.2.2.2.2.2.2.2; omega
        rcases ih S A' B' n k' c' _ μ' q5 (by omega) with ⟨r1, m2, r2, r3⟩ | ⟨l, r1, m2, μ2, A2, B2, k2, c2, r2, r3, r4, r5, r6, r7, r8⟩
        · rw [r1]
          exact Or.inl ⟨rfl, m + m2, by omega, r3.pre q4 q7⟩
        · rw [r1]
          exact Or.inr ⟨x :: l, rfl, m + m2, μ2, A2, B2, k2, c2, by omega, q4.tr r3, r4, r5, by omega, q7.tr r7 q6 (Nat.le_refl _), k', stR_tr (trR_le 3) (trR_tr 3) x k k' (r7.ro hk9') q8, r8⟩
