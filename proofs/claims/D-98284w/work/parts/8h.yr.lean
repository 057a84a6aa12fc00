/-! TEXTS: a year, both readers: trees against rows -/
set_option maxRecDepth 100000
/-- slot 0, with the new slot's rows -/
def shY (μ : MS) : MS := (μ.1, μ.2.1, fun k => if k = 0 then fun i => if 130 ≤ i then μ.2.2.1 0 (2000 + i) else μ.2.2.1 0 i else μ.2.2.1 k, μ.2.2.2)
theorem sh_r {μ : MS} {x : Nat} (hx : 130 ≤ x) (hx2 : x < 90000) : ga (shY μ) 0 (nI x) = nt μ (2000 + x) := by
  unfold nt ga
  rw [nI_clamp (by omega), nI_clamp (by omega)]
  exact if_pos hx
theorem sh_0 {μ : MS} : ga (shY μ) 0 0 = ga μ 0 0 := rfl
theorem ro_i (k x : Nat) : rowI (nI k) + nI x = nI (130 + 6 * k + x) := by
  unfold rowI
  rw [show (6 : Int32) * nI k = nI (6 * k) from nI_mul 6 k, show (130 : Int32) + nI (6 * k) = nI (130 + 6 * k) from nI_add 130 _, nI_add]
theorem ro_0 (k : Nat) : rowI (nI k) = nI (130 + 6 * k) := by
  unfold rowI
  rw [show (6 : Int32) * nI k = nI (6 * k) from nI_mul 6 k]
  exact nI_add 130 _
/-- the rows between two places are as they were -/
def RO2 (k j : Nat) (ν ν' : MS) : Prop := (∀ x, 130 + 6 * k ≤ x → x < 130 + 6 * j → ga ν' 0 (nI x) = ga ν 0 (nI x)) ∧ ga ν' 0 0 = ga ν 0 0
theorem RO2.sub {k j k' j' : Nat} {ν ν' : MS} (h : RO2 k j ν ν') (h1 : k ≤ k') (h2 : j' ≤ j) : RO2 k' j' ν ν' := ⟨fun x a b => h.1 x (by omega) (by omega), h.2⟩
theorem actR_tr {ν ν' : MS} {w : Int32 × Int32 × Int32 × Int32} {k : Nat} (h : RO2 k (k + 1) ν ν') (hr : actR ν w (rowI (nI k))) : actR ν' w (rowI (nI k)) := by
  have e0 : ga ν' 0 (rowI (nI k)) = ga ν 0 (rowI (nI k)) := by rw [ro_0]; exact h.1 _ (by omega) (by omega)
  have e1 : ga ν' 0 (rowI (nI k) + 1) = ga ν 0 (rowI (nI k) + 1) := by rw [show rowI (nI k) + 1 = nI (130 + 6 * k + 1) from ro_i k 1]; exact h.1 _ (by omega) (by omega)
  have e2 : ga ν' 0 (rowI (nI k) + 2) = ga ν 0 (rowI (nI k) + 2) := by rw [show rowI (nI k) + 2 = nI (130 + 6 * k + 2) from ro_i k 2]; exact h.1 _ (by omega) (by omega)
  have e3 : ga ν' 0 (rowI (nI k) + 3) = ga ν 0 (rowI (nI k) + 3) := by rw [show rowI (nI k) + 3 = nI (130 + 6 * k + 3) from ro_i k 3]; exact h.1 _ (by omega) (by omega)
  unfold actR at *
  rw [e0, e1, e2, e3, h.2]
  exact hr
theorem whnR_tr {ν ν' : MS} {w : Int32 × Int32 × Int32 × Int32 × Int32} {k : Nat} (h : RO2 k (k + 1) ν ν') (hr : whnR ν w (rowI (nI k))) : whnR ν' w (rowI (nI k)) := by
  have e0 : ga ν' 0 (rowI (nI k)) = ga ν 0 (rowI (nI k)) := by rw [ro_0]; exact h.1 _ (by omega) (by omega)
  have e1 : ga ν' 0 (rowI (nI k) + 1) = ga ν 0 (rowI (nI k) + 1) := by rw [show rowI (nI k) + 1 = nI (130 + 6 * k + 1) from ro_i k 1]; exact h.1 _ (by omega) (by omega)
  have e2 : ga ν' 0 (rowI (nI k) + 2) = ga ν 0 (rowI (nI k) + 2) := by rw [show rowI (nI k) + 2 = nI (130 + 6 * k + 2) from ro_i k 2]; exact h.1 _ (by omega) (by omega)
  have e3 : ga ν' 0 (rowI (nI k) + 3) = ga ν 0 (rowI (nI k) + 3) := by rw [show rowI (nI k) + 3 = nI (130 + 6 * k + 3) from ro_i k 3]; exact h.1 _ (by omega) (by omega)
  have e5 : ga ν' 0 (rowI (nI k) + 5) = ga ν 0 (rowI (nI k) + 5) := by rw [show rowI (nI k) + 5 = nI (130 + 6 * k + 5) from ro_i k 5]; exact h.1 _ (by omega) (by omega)
  unfold whnR at *
  rw [e0, e1, e2, e3, e5, h.2]
  exact hr
theorem stR_tr {ν ν' : MS} {T : Type} {B B' : T → Nat → Nat → Prop} (hle : ∀ t k j, B t k j → k ≤ j) (hB : ∀ t k j, RO2 k j ν ν' → B t k j → B' t k j) : ∀ (x : ST T) (k j : Nat), RO2 k j ν ν' → stR ν B x k j → stR ν' B' x k j := by
  intro x k j h hr
  have hj := stR_le hle x k j hr
  rcases x with w | y | y
  · obtain ⟨h1, h2⟩ := hr
    exact ⟨h1, actR_tr (h.sub (Nat.le_refl _) (by omega)) h2⟩
  · obtain ⟨⟨h1, h2, h3⟩, i, h4, h5, h6, h7⟩ := hr
    have hi := hle _ _ _ h4
    have e0 : ga ν' 0 (rowI (nI k)) = ga ν 0 (rowI (nI k)) := by rw [ro_0]; exact h.1 _ (by omega) (by omega)
    have e1 : ga ν' 0 (rowI (nI k) + 1) = ga ν 0 (rowI (nI k) + 1) := by rw [show rowI (nI k) + 1 = nI (130 + 6 * k + 1) from ro_i k 1]; exact h.1 _ (by omega) (by omega)
    have e2 : ga ν' 0 (rowI (nI i)) = ga ν 0 (rowI (nI i)) := by rw [ro_0]; exact h.1 _ (by omega) (by omega)
    have e3 : ga ν' 0 (rowI (nI i) + 4) = ga ν 0 (rowI (nI i) + 4) := by rw [show rowI (nI i) + 4 = nI (130 + 6 * i + 4) from ro_i i 4]; exact h.1 _ (by omega) (by omega)
    exact ⟨⟨e0.trans h1, e1.trans h2, h3⟩, i, hB _ _ _ (h.sub (by omega) (by omega)) h4, h5, e2.trans h6, e3.trans h7⟩
  · obtain ⟨h1, i, h4, h5, h6, h7, h8⟩ := hr
    have hi := hle _ _ _ h4
    have e2 : ga ν' 0 (rowI (nI i)) = ga ν 0 (rowI (nI i)) := by rw [ro_0]; exact h.1 _ (by omega) (by omega)
    have e3 : ga ν' 0 (rowI (nI i) + 4) = ga ν 0 (rowI (nI i) + 4) := by rw [show rowI (nI i) + 4 = nI (130 + 6 * i + 4) from ro_i i 4]; exact h.1 _ (by omega) (by omega)
    have e4 : ga ν' 0 (rowI (nI k) + 4) = ga ν 0 (rowI (nI k) + 4) := by rw [show rowI (nI k) + 4 = nI (130 + 6 * k + 4) from ro_i k 4]; exact h.1 _ (by omega) (by omega)
    exact ⟨whnR_tr (h.sub (Nat.le_refl _) (by omega)) h1, i, hB _ _ _ (h.sub (by omega) (by omega)) h4, h5, e2.trans h6, e3.trans h7, e4.trans h8⟩
theorem sqR_tr {ν ν' : MS} {T : Type} {B B' : T → Nat → Nat → Prop} (hle : ∀ t k j, B t k j → k ≤ j) (hB : ∀ t k j, RO2 k j ν ν' → B t k j → B' t k j) : ∀ (l : List (ST T)) (k j : Nat), RO2 k j ν ν' → sqR ν B l k j → sqR ν' B' l k j
  | [], k, j, _, h => h
  | x :: l, k, j, h, ⟨i, h1, h2⟩ => by
    have a := stR_le hle x k i h1
    have b := sqR_le hle l i j h2
    exact ⟨i, stR_tr hle hB x k i (h.sub (Nat.le_refl _) (by omega)) h1, sqR_tr hle hB l i j (h.sub (by omega) (Nat.le_refl _)) h2⟩
theorem trR_tr {ν ν' : MS} : ∀ (d : Nat) (t : TR d) (k j : Nat), RO2 k j ν ν' → trR ν d t k j → trR ν' d t k j
  | 0, _, _, _, _, h => h
  | d + 1, t, k, j, h, hr => sqR_tr (trR_le d) (trR_tr d) (trl t) k j h hr
/-- steps one behind another -/
theorem sqR_app {ν : MS} {T : Type} {B : T → Nat → Nat → Prop} : ∀ (l : List (ST T)) (x : ST T) (k i j : Nat), sqR ν B l k i → stR ν B x i j → sqR ν B (l ++ [x]) k j
  | [], x, k, i, j, h, hx => by rw [show i = k from h] at hx; exact ⟨j, hx, rfl⟩
  | y :: l, x, k, i, j, ⟨m, h1, h2⟩, hx => ⟨m, h1, sqR_app l x m i j h2 hx⟩
/-- both stand ahead of a step: k rows told, c steps, e blocks open -/
def YSt (S A B n k c e : Nat) (σ : MS × MS) (μ : MS) : Prop := TK S A B σ μ ∧ Z0 μ ∧ NMS n 0 (ttb σ) μ ∧ ga μ 0 0 = nI n ∧ nt μ 2009 = nI k ∧ gi μ 22 = nI e ∧ gi μ 23 = nI c ∧ gi (own σ) 5 = nI c ∧ (k + e ≤ 2 * c ∧ c ≤ 30 ∧ e ≤ 3)
/-- what steps leave: the rows ahead of them, what is open -/
def YF (k e : Nat) (μ μ' : MS) : Prop := (∀ j, j < 2130 + 6 * k → ¬ j = 2009 → nt μ' j = nt μ j) ∧ μ'.2.2.2 = μ.2.2.2 ∧ (∀ i, i < e → ga μ' 21 (nI i) = ga μ 21 (nI i)) ∧ gi μ' 10 = gi μ 10
theorem YF.rf {k e : Nat} {μ : MS} : YF k e μ μ := ⟨fun _ _ _ => rfl, rfl, fun _ _ => rfl, rfl⟩
theorem YF.tr {k e k' e' : Nat} {μ w u : MS} (h : YF k e μ w) (h2 : YF k' e' w u) (hk : k ≤ k') (he : e ≤ e') : YF k e μ u := ⟨fun j a b => (h2.1 j (by omega) b).trans (h.1 j a b), h2.2.1.trans h.2.1, fun i hi => (h2.2.2.1 i (by omega)).trans (h.2.2.1 i hi), h2.2.2.2.trans h.2.2.2⟩
theorem YF.lk {k e : Nat} {μ u : MS} (h : YF k e μ u) : LK μ u := ⟨fun j hj => h.1 j (by omega) (by omega), fun j _ => by unfold gb; rw [h.2.1]⟩
theorem YF.ro {k e k0 : Nat} {μ u : MS} (h : YF k e μ u) (hk : k < 1000) : RO2 k0 k (shY μ) (shY u) := ⟨fun x h1 h2 => by rw [sh_r (by omega) (by omega), sh_r (by omega) (by omega)]; exact h.1 _ (by omega) (by omega), (h.1 0 (by omega) (by omega))⟩
/-- so many rounds of the reference's loop -/
def RUN (m : Nat) (μ μ' : MS) : Prop := ∀ k, f_X6_year_L38 (k + m) 1 μ = f_X6_year_L38 k 1 μ'
theorem RUN.rf {μ : MS} : RUN 0 μ μ := fun _ => rfl
theorem RUN.tr {m1 m2 : Nat} {μ w u : MS} (h : RUN m1 μ w) (h2 : RUN m2 w u) : RUN (m1 + m2) μ u := fun k => by
  rw [show k + (m1 + m2) = (k + m2) + m1 by omega, h, h2]
theorem RUN.one {S A B : Nat} {σ : MS × MS} {μ : MS} {y : MS × Int32} (h : TK S A B σ μ) (h3 : ¬ gi (own σ) 3 = 0) (e : f_X6_yearStep μ = y) (h1 : y.2 = 1) : RUN 1 μ y.1 := fun k => by
  rw [f_X6_year_L38, if_neg (show ¬ (1 : Int32) = 0 by decide), if_neg (fun q => h3 ((tk_s0 h).mpr q))]
  dsimp only
  rw [e, h1]
/-- behind the loop: what is open still -/
def yM (μ : MS) : MS := if gi μ 18 = 0 then (if gi μ 22 ≤ 0 then μ else (f_X6_fails μ 2).1) else μ
def RBAD (m : Nat) (μ : MS) (σf : MS × MS) : Prop := ∃ μf, (∀ k, (f_X6_year_L38 (k + m) 1 μ).2 = μf) ∧ FT σf (yM μf) ∧ LK μ (yM μf) ∧ gi (yM μf) 10 = gi μ 10
theorem RBAD.pre {m1 m2 k e : Nat} {μ w : MS} {σf : MS × MS} (h : RUN m1 μ w) (hY : YF k e μ w) (h2 : RBAD m2 w σf) : RBAD (m1 + m2) μ σf := by
  obtain ⟨μf, a1, a2, a3, a4⟩ := h2
  exact ⟨μf, fun k => by rw [show k + (m1 + m2) = (k + m2) + m1 by omega, h]; exact a1 k, a2, hY.lk.tr a3, a4.trans hY.2.2.2⟩
theorem BADI {X : Type} {S A m : Nat} {μ : MS} {σf : MS × MS} (h1 : m + A ≤ S + 1) (h2 : RBAD m μ σf) : ((σf, none) : (MS × MS) × Option X).2 = none ∧ ∃ m, m + A ≤ S + 1 ∧ RBAD m μ ((σf, none) : (MS × MS) × Option X).1 := ⟨rfl, m, h1, h2⟩
theorem RBAD.one {S A B : Nat} {σ σf : MS × MS} {μ : MS} {y : MS × Int32} (h : TK S A B σ μ) (h3 : ¬ gi (own σ) 3 = 0) (e : f_X6_yearStep μ = y) (h1 : y.2 = 0) (hf : FT σf y.1) (hK : LK μ y.1) (hg : gi y.1 10 = gi μ 10) : RBAD 1 μ σf := by
  have n0 : ¬ gi y.1 18 = 0 := fun z => hf.2.2 (by rw [z]; decide)
  have ey : yM y.1 = y.1 := by unfold yM; rw [if_neg n0]
  refine ⟨y.1, fun k => ?_, by rw [ey]; exact hf, by rw [ey]; exact hK, by rw [ey]; exact hg⟩
  rw [f_X6_year_L38, if_neg (show ¬ (1 : Int32) = 0 by decide), if_neg (fun q => h3 ((tk_s0 h).mpr q))]
  dsimp only
  rw [e, h1]
  cases k with
  | zero => rfl
  | succ k => rw [f_X6_year_L38, if_pos rfl]
theorem RBAD.fin {S A B e : Nat} {σ : MS × MS} {μ : MS} (h : TK S A B σ μ) (h0 : Z0 μ) (h3 : gi (own σ) 3 = 0) (he : gi μ 22 = nI e) (he1 : 0 < e ∧ e ≤ 3) : RBAD 0 μ (f_X7_wrong σ) := by
  have t := ft_wrong h h0
  have ey : yM μ = (f_X6_fails μ 2).1 := by
    unfold yM
    rw [if_pos h0.1, if_neg (by rw [he]; exact nI_nle he1.1 (by omega))]
  refine ⟨μ, fun k => ?_, by rw [ey]; exact t.1, by rw [ey]; exact LK.rf.e t.2.2, by rw [ey]; exact g_fl _ _⟩
  cases k with
  | zero => rfl
  | succ k => rw [Nat.add_zero, f_X6_year_L38, if_neg (show ¬ (1 : Int32) = 0 by decide), if_pos ((tk_s0 h).mp h3)]
/-- a step and its rows -/
def STS (d : Nat) : Prop := ∀ (S A B n k c e : Nat) (σ : MS × MS) (μ : MS), YSt S A B n k c e σ μ → e + d = 3 → (0 < e → f_X7_isWord σ 28 = 0) → (e = 0 → ¬ gi (own σ) 3 = 0) →
  ((stP d σ).2 = none ∧ ∃ m, m + A ≤ S + 1 ∧ RBAD m μ (stP d σ).1) ∨
  (∃ x, (stP d σ).2 = some x ∧ ∃ (m : Nat) (μ' : MS) (A' B' k' c' : Nat), A + m ≤ A' ∧ 1 ≤ m ∧ RUN m μ μ' ∧ YSt S A' B' n k' c' e (stP d σ).1 μ' ∧ k ≤ k' ∧ YF k e μ μ' ∧ stR (shY μ') (trR (shY μ') d) x k k')
theorem ys_list {d : Nat} (hS : STS d) : ∀ (N S A B n k c e : Nat) (σ : MS × MS) (μ : MS), YSt S A B n k c e σ μ → e + d = 3 → 0 < e → S < N + A →
  ((lstP (stP d) N σ).2 = none ∧ ∃ m, m + A ≤ S + 1 ∧ RBAD m μ (lstP (stP d) N σ).1) ∨
  (∃ (l : List (ST (TR d))) (σ' : MS × MS), lstP (stP d) N σ = (f_X7_next σ', some l) ∧ ∃ (m : Nat) (μ' : MS) (A' B' k' c' : Nat), A + m ≤ A' ∧ RUN m μ μ' ∧ YSt S A' B' n k' c' e σ' μ' ∧ ¬ f_X7_isWord σ' 28 = 0 ∧ k ≤ k' ∧ YF k e μ μ' ∧ sqR (shY μ') (trR (shY μ') d) l k k') := by
  intro N
  induction N with
  | zero =>
    intro S A B n k c e σ μ h _ _ hN
    have := h.1.2.2.2.1
    omega
  | succ N ih =>
    intro S A B n k c e σ μ h he he0 hN
    have hk9 : k < 1000 := by have := h.2.2.2.2.2.2.2.2; omega
    rw [lstP]
    by_cases w : f_X7_isWord σ 28 = 0
    · rw [if_pos w]
      rcases hS S A B n k c e σ μ h he (fun _ => w) (fun z => absurd z (by omega)) with ⟨q1, m, q2, q3⟩ | ⟨x, q1, m, μ', A', B', k', c', q2, q3, q4, q5, q6, q7, q8⟩
      · rw [q1]
        exact Or.inl ⟨rfl, m, q2, q3⟩
      · rw [q1]
        dsimp only
        have hk9' : k' < 1000 := by have := q5.2.2.2.2.2.2.2.2; omega
        rcases ih S A' B' n k' c' e _ μ' q5 he he0 (by omega) with ⟨r1, m2, r2, r3⟩ | ⟨l, σ', r1, m2, μ2, A2, B2, k2, c2, r2, r3, r4, r5, r6, r7, r8⟩
        · rw [r1]
          exact Or.inl ⟨rfl, m + m2, by omega, r3.pre q4 q7⟩
        · rw [r1]
          refine Or.inr ⟨x :: l, σ', rfl, m + m2, μ2, A2, B2, k2, c2, by omega, q4.tr r3, r4, r5, by omega, q7.tr r7 q6 (Nat.le_refl _), k', ?_, r8⟩
          exact stR_tr (trR_le d) (trR_tr d) x k k' (r7.ro hk9') q8
    · rw [if_neg w]
      exact Or.inr ⟨[], σ, rfl, 0, μ, A, B, k, c, by omega, RUN.rf, h, w, Nat.le_refl _, YF.rf, rfl⟩
section YK
variable {S A B n k c e : Nat} {σ : MS × MS} {μ : MS}
/-- behind a row's head: its words -/
theorem hd_st (h : YSt S A B n k c e σ μ) (h1 : gi (own σ) 3 = 1) (key o t : Int32) (σ5 : MS × MS) (h5 : σ5 = σ ∨ σ5 = lsi σ 5 (gi (own σ) 5 + 1)) : ∃ A1 B1, A < A1 ∧ TK S A1 B1 (f_X7_next σ5) (f_X6_ahead (hdM μ key k o t)) ∧ NXF σ5 (f_X7_next σ5) ∧ AHF (hdM μ key k o t) (f_X6_ahead (hdM μ key k o t)) ∧ Z0 (f_X6_ahead (hdM μ key k o t)) ∧ NMS n 0 (ttb (f_X7_next σ5)) (f_X6_ahead (hdM μ key k o t)) ∧ ga (f_X6_ahead (hdM μ key k o t)) 0 0 = nI n := by
  obtain ⟨T, Z, N, P, K9, E22, C23, C5, hk, hc, he⟩ := h
  obtain ⟨g1, g2, g3, g4⟩ := hd_e (key := key) (o := o) (t := t) (k := k) (by omega) K9
  have T0 : TK S A B σ5 (hdM μ key k o t) := by
    have Tm : TK S A B σ (hdM μ key k o t) := T.mm (fun j hj => by
      rw [g1, if_neg (by simp only [List.mem_cons, List.not_mem_nil, or_false] at hj; omega)]) (fun j => by unfold ga; rw [g2 9 (by decide)])
    rcases h5 with z | z
    · rw [z]; exact Tm
    · rw [z]; exact Tm.osi (by decide)
  have tb5 : ttb σ5 = ttb σ := by rcases h5 with z | z <;> rw [z] <;> rfl
  have hAB := tk_lt T (by rw [h1]; decide)
  obtain ⟨A1, B1, l1, T1, F1, G1⟩ := nx_st T0
  have n6 := N.2.1
  refine ⟨A1, B1, by omega, T1, F1, G1, G1.f ⟨by rw [g1, if_neg (by omega)]; exact Z.1, by rw [g1, if_neg (by omega)]; exact Z.2⟩, (N.of rfl g3).nx (F1.1.trans tb5) G1.1, ?_⟩
  refine (ga_2 G1.1 0 0).trans ((g4 0 (by omega)).trans ?_)
  rw [if_neg (by omega), if_neg (by omega), if_neg (by omega)]
  exact P
/-- what an act's row has become -/
theorem act_st (h : YSt S A B n k c e σ μ) (h1 : gi (own σ) 3 = 1) (key : Int32) (hk : f_X6_inWords μ = key) (q1 : ¬ key < 17) (q2 : ¬ 27 < key) (q3 : ¬ key = 22) (q4 : ¬ key = 23) (q5 : ¬ key = 24) (q6 : ¬ key = 25) (q7 : ¬ key = 26) (h30 : ¬ gi μ 23 = 30)
    {R : Int32 × Int32 × Int32 × Int32 → MS → Prop} (hY : ∀ A1 B1, A < A1 → TK S A1 B1 (f_X7_next (lsi σ 5 (gi (own σ) 5 + 1))) (f_X6_ahead (hdM μ key k 0 1)) → Z0 (f_X6_ahead (hdM μ key k 0 1)) → NMS n 0 (ttb (f_X7_next (lsi σ 5 (gi (own σ) 5 + 1)))) (f_X6_ahead (hdM μ key k 0 1)) → ga (f_X6_ahead (hdM μ key k 0 1)) 0 0 = nI n → nt (f_X6_ahead (hdM μ key k 0 1)) (2130 + 6 * k) = key → YO S A1 (2130 + 6 * k) (f_X7_next (lsi σ 5 (gi (own σ) 5 + 1))) (f_X6_ahead (hdM μ key k 0 1)) (f_X7_plain (lsi σ 5 (gi (own σ) 5 + 1))) (yoM μ key k 0 1) R)
    (hR : ∀ v u, R v u → ga u 0 0 = nI n → actR (shY u) v (rowI (nI k))) (hRe : ∀ v u u', R v u → u'.2 = u.2 → R v u') {T9 : Type} (BB : MS → T9 → Nat → Nat → Prop) (X : (MS × MS) × Option (ST T9)) (hX : X = endP ((f_X7_plain (lsi σ 5 (gi (own σ) 5 + 1))).2.map Sum.inl) (f_X7_plain (lsi σ 5 (gi (own σ) 5 + 1))).1) :
    (X.2 = none ∧ ∃ m, m + A ≤ S + 1 ∧ RBAD m μ X.1) ∨
    (∃ x, X.2 = some x ∧ ∃ (m : Nat) (μ' : MS) (A' B' k' c' : Nat), A + m ≤ A' ∧ 1 ≤ m ∧ RUN m μ μ' ∧ YSt S A' B' n k' c' e X.1 μ' ∧ k ≤ k' ∧ YF k e μ μ' ∧ stR (shY μ') (BB μ') x k k') := by
  have H := h
  obtain ⟨T, Z, N, P, K9, E22, C23, C5, hkc, hc, he⟩ := h
  have n6 := N.2.1
  have h3 : ¬ gi (own σ) 3 = 0 := by rw [h1]; decide
  obtain ⟨g1, g2, g3, g4⟩ := hd_e (key := key) (o := 0) (t := 1) (k := k) (by omega) K9
  obtain ⟨A1, B1, l1, T1, F1, G1, Z1, N1, P1⟩ := hd_st H h1 key 0 1 _ (Or.inr rfl)
  have eY : f_X6_yearStep μ = aM μ key k := yS_act K9 hk q1 q2 q3 q4 q5 q6 q7 h30
  have hAS := T.2.2.2.1
  have c29 : c < 30 := by
    rcases Nat.lt_or_ge c 30 with z | z
    · exact z
    · exact (h30 (by rw [C23, show c = 30 by omega]; rfl)).elim
  have nh : ∀ j, j < 100000 → nt (f_X6_ahead (hdM μ key k 0 1)) j = if j = 2009 then nI (k + 1) else if j = 2130 + 6 * k then key else if 2130 + 6 * k < j ∧ j < 2130 + 6 * k + 6 then 0 else nt μ j := fun j hj => (nt_of G1.1 j).trans (g4 j hj)
  have Y := hY A1 B1 l1 T1 Z1 N1 P1 (by rw [nh _ (by omega), if_neg (by omega), if_pos rfl])
  have F5 : NXF (lsi σ 5 (gi (own σ) 5 + 1)) (f_X7_next (lsi σ 5 (gi (own σ) 5 + 1))) := F1
  -- frames of a row
  have FR : ∀ u, WR (2130 + 6 * k) (f_X6_ahead (hdM μ key k 0 1)) u → YF k e μ u := fun u hu => by
    refine ⟨fun j h1 h2 => ?_, ?_, fun i hi => ?_, ?_⟩
    · rw [hu.1 j (by omega) (by omega), nh j (by omega), if_neg h2, if_neg (by omega), if_neg (by omega)]
    · rw [hu.2.1, G1.1, g3]
    · show u.2.2.1 21 _ = μ.2.2.1 21 _
      rw [hu.2.2.1 21 (by decide), G1.1, g2 21 (by decide)]
    · rw [hu.2.2.2, g_ah, g1, if_neg (by omega)]
  subst hX
  unfold aM at eY
  rcases Y with ⟨y1, y2, y3, y4⟩ | ⟨v, y1, y2, y3, y4, y5, A2, B2, l2, T2, F2⟩
  · rw [if_pos y3] at eY
    rw [y1]
    exact Or.inl ⟨rfl, 1, by omega, RBAD.one T h3 eY rfl y2 (FR _ y4).lk (FR _ y4).2.2.2⟩
  · rw [if_neg (n10 y2)] at eY
    rw [y1]
    have Z2 : Z0 (yoM μ key k 0 1).1 := ⟨(y5 18 (by decide)).trans Z1.1, (y5 17 (by decide)).trans Z1.2⟩
    have FR2 := FR _ y4
    rw [Option.map_some]
    unfold endP
    dsimp only
    rcases cl_st T2 Z2 with ⟨w1, w2, w3, w4⟩ | ⟨w1, w2, A3, B3, l3, T3, F3, G3⟩
    · rw [if_pos w1]
      exact Or.inl (BADI (m := 1) (by omega) (RBAD.one T h3 eY w3 w2 (FR2.lk.e w4) ((g_ws _ _).trans FR2.2.2.2)))
    · rw [if_neg (nf w1)]
      dsimp only
      have e0 : ga (f_X6_wantSign (yoM μ key k 0 1).1 59).1 0 0 = nI n := (ga_2 G3.1 0 0).trans ((y4.1 0 (by omega) (by omega)).trans P1)
      have FR3 : YF k e μ (f_X6_wantSign (yoM μ key k 0 1).1 59).1 := ⟨fun j h1 h2 => (nt_of G3.1 j).trans (FR2.1 j h1 h2), by rw [G3.1]; exact FR2.2.1, fun i hi => (ga_2 G3.1 21 _).trans (FR2.2.2.1 i hi), (g_ws _ _).trans FR2.2.2.2⟩
      refine Or.inr ⟨_, rfl, 1, (f_X6_wantSign (yoM μ key k 0 1).1 59).1, A3, B3, k + 1, c + 1, by omega, Nat.le_refl _, RUN.one T h3 eY w2, ⟨T3, G3.f Z2, ?_, e0, ?_, ?_, ?_, ?_, by omega, by omega, he⟩, by omega, FR3, rfl, hR _ _ (hRe _ _ _ y3 G3.1) e0⟩
      · refine NMS.nx ?_ F3.1 G3.1
        exact N1.of F2.1 y4.2.1
      · rw [nt_of G3.1, y4.1 2009 (by omega) (by omega), nh _ (by omega), if_pos rfl]
      · rw [G3.2 22 (by decide), y5 22 (by decide), G1.2 22 (by decide), g1, if_neg (by omega)]
        exact E22
      · rw [G3.2 23 (by decide), y5 23 (by decide), G1.2 23 (by decide), g1, if_pos rfl, C23, nI_1]
      · rw [F3.2.1 5 (by decide), F2.2.1 5 (by decide), F5.2.1 5 (by decide)]
        show gi (own σ) 5 + 1 = _
        rw [C5, nI_1]
end YK
