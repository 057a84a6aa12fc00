/-! TEXTS: the smallest statements, both readers -/
set_option maxRecDepth 100000
theorem nI_mul (a b : Nat) : nI a * nI b = nI (a * b) := (Int32.ofNat_mul a b).symm
theorem nI_m1 {p : Nat} (h : p < 100000) : ¬ nI p = -1 := fun q => by
  have := congrArg Int32.toInt q
  rw [nI_toInt (by omega), z_m1] at this
  omega
/-- no fault yet -/
def Z0 (μ : MS) : Prop := gi μ 18 = 0 ∧ gi μ 17 = -1
/-- both found the same fault at the same place -/
def FT (σ : MS × MS) (μ : MS) : Prop := gi μ 18 = gi (own σ) 16 ∧ gi μ 17 = gi (own σ) 17 ∧ ¬ gi μ 18 ≤ 0
section TL
variable {S A B : Nat} {σ : MS × MS} {μ : MS}
theorem tk_s0 (h : TK S A B σ μ) : gi (own σ) 3 = 0 ↔ gi μ 12 = 0 := by
  rcases h.2.2.2.2.1 with ⟨a, b⟩ | ⟨a, b⟩ | ⟨a, b⟩ | ⟨a, b⟩ | ⟨a, b⟩ <;> rw [a, b] <;> decide
theorem tk_s1 (h : TK S A B σ μ) : gi (own σ) 3 = 1 ↔ gi μ 12 = 2 := by
  rcases h.2.2.2.2.1 with ⟨a, b⟩ | ⟨a, b⟩ | ⟨a, b⟩ | ⟨a, b⟩ | ⟨a, b⟩ <;> rw [a, b] <;> decide
theorem tk_s2 (h : TK S A B σ μ) : gi (own σ) 3 = 2 ↔ gi μ 12 = 3 := by
  rcases h.2.2.2.2.1 with ⟨a, b⟩ | ⟨a, b⟩ | ⟨a, b⟩ | ⟨a, b⟩ | ⟨a, b⟩ <;> rw [a, b] <;> decide
theorem tk_s3 (h : TK S A B σ μ) : gi (own σ) 3 = 3 ↔ gi μ 12 = 4 := by
  rcases h.2.2.2.2.1 with ⟨a, b⟩ | ⟨a, b⟩ | ⟨a, b⟩ | ⟨a, b⟩ | ⟨a, b⟩ <;> rw [a, b] <;> decide
theorem tk_s4 (h : TK S A B σ μ) : gi (own σ) 3 = 4 ↔ gi μ 12 = 1 := by
  rcases h.2.2.2.2.1 with ⟨a, b⟩ | ⟨a, b⟩ | ⟨a, b⟩ | ⟨a, b⟩ | ⟨a, b⟩ <;> rw [a, b] <;> decide
theorem tk_lt (h : TK S A B σ μ) (c : ¬ gi (own σ) 3 = 0) : A < B := h.2.2.2.2.2.2.2.2.2 c
theorem TK.sa (h : TK S A B σ μ) (i v : Int32) : TK S A B σ (sa μ 0 i v) := ⟨h.1.of rfl (fun _ => rfl) rfl (fun _ => ga_sa_k (by decide)), h.2⟩
theorem TK.sb (h : TK S A B σ μ) (i : Int32) (v : Int64) : TK S A B σ (sb μ 1 i v) := ⟨h.1.of rfl (fun _ => rfl) rfl (fun _ => rfl), h.2⟩
/-- the reader's other numbers, its table, matter nothing -/
theorem TK.osi (h : TK S A B σ μ) {k : Nat} {v : Int32} (hk : k ∉ [0, 1, 2, 3, 4]) : TK S A B (lsi σ k v) μ := by
  have e : ∀ j, j ∈ [0, 1, 2, 3, 4] → gi (own (lsi σ k v)) j = gi (own σ) j := fun j hj => by
    have hne : j ≠ k := fun e => hk (e ▸ hj)
    show upd (own σ).1 k v j = (own σ).1 j
    simp [upd, hne]
  refine ⟨h.1.of (e 0 (by decide)) (fun _ => rfl) rfl (fun _ => rfl), ?_⟩
  rw [e 1 (by decide), e 2 (by decide), e 3 (by decide), e 4 (by decide)]
  exact h.2
theorem TK.msi (h : TK S A B σ μ) {k : Nat} {v : Int32} (hk : k ∉ [11, 12, 13, 14, 15]) : TK S A B σ (si μ k v) := by
  have e : ∀ j, j ∈ [11, 12, 13, 14, 15] → gi (si μ k v) j = gi μ j := fun j hj => by
    have hne : j ≠ k := fun e => hk (e ▸ hj)
    show upd μ.1 k v j = μ.1 j
    simp [upd, hne]
  refine ⟨h.1.of rfl (fun _ => rfl) (e 11 (by decide)) (fun _ => rfl), ?_⟩
  rw [e 12 (by decide), e 13 (by decide), e 14 (by decide), e 15 (by decide)]
  exact h.2
theorem TK.tb {σ' : MS × MS} (h : TK S A B σ μ) (e : σ'.1 = σ.1) : TK S A B σ' μ := by
  have e2 : own σ' = own σ := e
  have e3 : ∀ k, bt σ' k = bt σ k := fun k => by unfold bt; rw [e2]
  refine ⟨h.1.of (by rw [e2]) (fun _ => by rw [e2]) rfl (fun _ => rfl), ?_⟩
  rw [e2]
  simp only [e3]
  exact h.2
theorem ft_at (h : TK S A B σ μ) (h0 : Z0 μ) (hs : ¬ gi (own σ) 3 = 4) (k : Int32) (hk : ¬ k ≤ 0) : FT (f_X2_at σ k (gi (own σ) 1)) (f_X6_fails μ k).1 ∧ (f_X6_fails μ k).2 = 0 ∧ (f_X6_fails μ k).1.2 = μ.2 := by
  unfold f_X6_fails
  rw [if_pos h0.1]
  dsimp only
  rw [if_neg (fun q => hs ((tk_s4 h).mpr q))]
  exact ⟨⟨rfl, h.2.1.2.trans h.2.1.1.symm, hk⟩, rfl, rfl⟩
theorem ft_wrong (h : TK S A B σ μ) (h0 : Z0 μ) : FT (f_X7_wrong σ) (f_X6_fails μ 2).1 ∧ (f_X6_fails μ 2).2 = 0 ∧ (f_X6_fails μ 2).1.2 = μ.2 := by
  unfold f_X6_fails f_X7_wrong
  rw [if_pos h0.1]
  dsimp only
  by_cases c : gi (own σ) 3 = 4
  · rw [if_pos c, if_pos ((tk_s4 h).mp c)]
    exact ⟨⟨rfl, h.2.1.2.trans h.2.1.1.symm, by show ¬ (1 : Int32) ≤ 0; decide⟩, rfl, rfl⟩
  · rw [if_neg c, if_neg (fun q => c ((tk_s4 h).mpr q))]
    exact ⟨⟨rfl, h.2.1.2.trans h.2.1.1.symm, by show ¬ (2 : Int32) ≤ 0; decide⟩, rfl, rfl⟩
theorem sg_e (h : TK S A B σ μ) (p : Int32) : f_X7_isSign σ p = f_X6_isSign μ p := by
  unfold f_X7_isSign f_X6_isSign
  by_cases c : gi (own σ) 3 = 3
  · rw [if_pos c, if_pos ((tk_s3 h).mp c), h.2.2.2.2.2.2.1 c, h.2.1.1]
    rfl
  · rw [if_neg c, if_neg (fun q => c ((tk_s3 h).mpr q))]
theorem sg_3 {p : Int32} (h : TK S A B σ μ) (c : ¬ f_X6_isSign μ p = 0) : gi (own σ) 3 = 3 ∧ gi μ 15 = p := by
  rw [← sg_e h] at c
  unfold f_X7_isSign at c
  split at c
  · rename_i c3
    split at c
    · rename_i c4
      exact ⟨c3, by rw [h.2.2.2.2.2.2.1 c3, ← c4, h.2.1.1]; rfl⟩
    · exact absurd rfl c
  · exact absurd rfl c
theorem nx_st (h : TK S A B σ μ) : ∃ A' B' : Nat, B ≤ A' ∧ TK S A' B' (f_X7_next σ) (f_X6_ahead μ) ∧ NXF σ (f_X7_next σ) ∧ AHF μ (f_X6_ahead μ) := tk_next h.1 h.2.2.1.1 h.2.2.1.2 h.2.2.2.1.2
/-- a statement's end -/
theorem cl_st (h : TK S A B σ μ) (h0 : Z0 μ) : ((f_X7_close σ).2 = true ∧ FT (f_X7_close σ).1 (f_X6_wantSign μ 59).1 ∧ (f_X6_wantSign μ 59).2 = 0 ∧ (f_X6_wantSign μ 59).1.2 = μ.2) ∨ ((f_X7_close σ).2 = false ∧ (f_X6_wantSign μ 59).2 = 1 ∧ ∃ A' B', A < A' ∧ TK S A' B' (f_X7_close σ).1 (f_X6_wantSign μ 59).1 ∧ NXF σ (f_X7_close σ).1 ∧ AHF μ (f_X6_wantSign μ 59).1) := by
  unfold f_X7_close f_X6_wantSign
  dsimp only
  rw [sg_e h]
  by_cases c : f_X6_isSign μ 59 = 0
  · rw [if_pos c, if_pos c]
    have t := ft_wrong h h0
    exact Or.inl ⟨rfl, t.1, t.2⟩
  · rw [if_neg c, if_neg c]
    have l := tk_lt h (by rw [(sg_3 h c).1]; decide)
    obtain ⟨A', B', h1, h2, h3, h4⟩ := nx_st h
    exact Or.inr ⟨rfl, rfl, A', B', by omega, h2, h3, h4⟩
/-- a word that must stand -/
theorem wo_st (h : TK S A B σ μ) (h0 : Z0 μ) {i : Nat} (hi : i < 29) {k : Int32} (hk : k = nI (kpi.getD i 0)) : ((f_X7_word σ i).2 = true ∧ FT (f_X7_word σ i).1 (f_X6_wantWord μ k).1 ∧ (f_X6_wantWord μ k).2 = 0 ∧ (f_X6_wantWord μ k).1.2 = μ.2) ∨ ((f_X7_word σ i).2 = false ∧ (f_X6_wantWord μ k).2 = 1 ∧ ∃ A' B', A < A' ∧ TK S A' B' (f_X7_word σ i).1 (f_X6_wantWord μ k).1 ∧ NXF σ (f_X7_word σ i).1 ∧ AHF μ (f_X6_wantWord μ k).1) := by
  subst hk
  obtain ⟨w1, w2⟩ := wd h hi
  unfold f_X7_word f_X6_wantWord
  dsimp only
  by_cases c : f_X7_isWord σ i = 0
  · rw [if_pos c, if_neg (w1.mp c)]
    have t := ft_wrong h h0
    exact Or.inl ⟨rfl, t.1, t.2⟩
  · have c9 : f_X6_inWords μ = nI (kpi.getD i 0) := Classical.byContradiction (fun q => c (w1.mpr q))
    rw [if_neg c, if_pos c9]
    have c3 : gi (own σ) 3 = 1 := Classical.byContradiction (fun q => c ((isW_e hi h).1 q))
    have l := tk_lt h (by rw [c3]; decide)
    obtain ⟨A', B', h1, h2, h3, h4⟩ := nx_st h
    exact Or.inr ⟨rfl, rfl, A', B', by omega, h2, h3, h4⟩
/-- a word that may stand -/
theorem th_st (h : TK S A B σ μ) {i : Nat} (hi : i < 29) {k : Int32} (hk : k = nI (kpi.getD i 0)) : (f_X7_isWord σ i = 0 ∧ f_X6_isThere μ k = (μ, 0)) ∨ (f_X7_isWord σ i = 1 ∧ f_X6_isThere μ k = (f_X6_ahead μ, 1) ∧ gi (own σ) 3 = 1 ∧ A < B) := by
  subst hk
  obtain ⟨w1, w2⟩ := wd h hi
  unfold f_X6_isThere
  dsimp only
  rcases w2 with c | c
  · rw [if_neg (w1.mp c)]
    exact Or.inl ⟨c, rfl⟩
  · have cn : ¬ f_X7_isWord σ i = 0 := by rw [c]; decide
    have c9 : f_X6_inWords μ = nI (kpi.getD i 0) := Classical.byContradiction (fun q => cn (w1.mpr q))
    have c3 : gi (own σ) 3 = 1 := Classical.byContradiction (fun q => cn ((isW_e hi h).1 q))
    rw [if_pos c9]
    exact Or.inr ⟨c, rfl, c3, tk_lt h (by rw [c3]; decide)⟩
/-- a number -/
theorem nu_st (h : TK S A B σ μ) (h0 : Z0 μ) (lo hi to : Int32) :
    ((f_X7_number σ lo hi).2 = true ∧ FT (f_X7_number σ lo hi).1.1 (f_X6_number μ to lo hi).1 ∧ (f_X6_number μ to lo hi).2 = 0 ∧ (f_X6_number μ to lo hi).1.2 = μ.2) ∨
    ((f_X7_number σ lo hi).2 = false ∧ (f_X6_number μ to lo hi).2 = 1 ∧ ∃ (A' B' : Nat) (v : Int32), A < A' ∧ (f_X7_number σ lo hi).1.2 = v ∧ (lo.toInt ≤ v.toInt ∧ v.toInt ≤ hi.toInt) ∧ TK S A' B' (f_X7_number σ lo hi).1.1 (f_X6_number μ to lo hi).1 ∧ NXF σ (f_X7_number σ lo hi).1.1 ∧ AHF (sa μ 0 to v) (f_X6_number μ to lo hi).1) := by
  by_cases c : gi (own σ) 3 = 2
  · obtain ⟨e, -, -⟩ := h.2.2.2.2.2.1 c
    have t4 := ft_at h h0 (by rw [c]; decide) 4 (by decide)
    have l := tk_lt h (by rw [c]; decide)
    unfold f_X7_number f_X6_number
    dsimp only
    rw [if_pos c, if_pos ((tk_s2 h).mp c), e]
    by_cases c1 : gi μ 15 < lo
    · rw [if_pos c1, if_pos c1]
      exact Or.inl ⟨rfl, t4.1, t4.2⟩
    · rw [if_neg c1, if_neg c1]
      by_cases c2 : gi μ 15 ≤ hi
      · rw [if_pos c2, if_pos c2]
        obtain ⟨A', B', h1, h2, h3, h4⟩ := nx_st (h.sa to (gi μ 15))
        exact Or.inr ⟨rfl, rfl, A', B', gi μ 15, by omega, rfl, ⟨c_nlt c1, c_le c2⟩, h2, h3, h4⟩
      · rw [if_neg c2, if_neg c2]
        exact Or.inl ⟨rfl, t4.1, t4.2⟩
  · have t := ft_wrong h h0
    unfold f_X7_number f_X6_number
    dsimp only
    rw [if_neg c, if_neg (fun q => c ((tk_s2 h).mpr q))]
    exact Or.inl ⟨rfl, t.1, t.2⟩
/-- the names told ahead -/
def NMS (n : Nat) (base : Int32) (τ μ : MS) : Prop := gi τ 1 = nI n ∧ n ≤ 6 ∧ ∀ p, p < n → NMr (gb τ 20 (nI p)) (gb μ 1 (base + nI p))
theorem nam_st (h : TK S A B σ μ) : (f_X6_isName μ = 0 ∧ f_X7_name σ = ((f_X7_wrong σ, 0), true)) ∨ (f_X6_isName μ = 1 ∧ gi (own σ) 3 = 1 ∧ (f_X7_name σ).2 = false ∧ (f_X7_name σ).1.1 = σ ∧ NMr (f_X7_name σ).1.2 (f_X6_nameHere μ)) := by
  have hS := h.1.1
  have hB := h.2.2.2.1
  by_cases c : gi (own σ) 3 = 1
  · have pA : (nI B - nI A : Int32).toInt = (B : Int) - A := i_sub (nI_toInt (by omega)) (nI_toInt (by omega)) (by omega)
    have e1 : gi (own σ) 2 - gi (own σ) 1 = nI B - nI A := by rw [h.2.1.1, h.2.2.1.1]
    have e2 : gi μ 14 - gi μ 13 = nI B - nI A := by rw [h.2.1.2, h.2.2.1.2]
    unfold f_X6_isName f_X7_name
    dsimp only
    rw [if_pos c, if_pos ((tk_s1 h).mp c), e1, e2]
    by_cases c1 : (8 : Int32) < nI B - nI A
    · rw [if_pos c1, if_pos c1]
      exact Or.inl ⟨rfl, rfl⟩
    · rw [if_neg c1, if_neg c1]
      have c1' := c_nlt c1
      rw [pA, show (8 : Int32).toInt = 8 from rfl] at c1'
      obtain ⟨k1, k2⟩ := kept_e h
      by_cases c2 : f_X7_isKept σ = 0
      · rw [if_pos c2, if_pos (k1.mp c2)]
        exact Or.inr ⟨rfl, c, rfl, rfl, nm_e2 h c (by omega)⟩
      · rw [if_neg c2, if_neg (fun q => c2 (k1.mpr q))]
        exact Or.inl ⟨rfl, rfl⟩
  · unfold f_X6_isName f_X7_name
    dsimp only
    rw [if_neg c, if_neg (fun q => c ((tk_s1 h).mpr q))]
    exact Or.inl ⟨rfl, rfl⟩
theorem kn_st {n : Nat} {base : Int32} (h : TK S A B σ μ) (hN : NMS n base (ttb σ) μ) :
    (f_X6_isName μ = 0 ∧ f_X7_known σ = ((f_X7_wrong σ, 0), true)) ∨
    (f_X6_isName μ = 1 ∧ gi (own σ) 3 = 1 ∧ f_X6_findHere μ base (nI n) = -1 ∧ f_X7_known σ = ((f_X2_at σ 3 (gi (own σ) 1), 0), true)) ∨
    (f_X6_isName μ = 1 ∧ gi (own σ) 3 = 1 ∧ ∃ p, p < n ∧ f_X6_findHere μ base (nI n) = nI p ∧ f_X7_known σ = ((σ, nI p), false)) := by
  rcases nam_st h with ⟨a, b⟩ | ⟨a, c, b, d, e⟩
  · refine Or.inl ⟨a, ?_⟩
    unfold f_X7_known
    dsimp only
    rw [b]
    exact if_pos rfl
  · have ef := e_named hN.1 hN.2.1 hN.2.2 e
    have hn := hN.2.1
    rcases find_rng (μ := μ) (base := base) hN.2.1 with r | ⟨p, hp, r⟩
    · refine Or.inr (Or.inl ⟨a, c, r, ?_⟩)
      unfold f_X7_known
      dsimp only
      rw [b, if_neg (by decide), d, ef, r, if_neg (by decide)]
    · refine Or.inr (Or.inr ⟨a, c, p, hp, r, ?_⟩)
      unfold f_X7_known
      dsimp only
      rw [b, if_neg (by decide), d, ef, r, if_pos (nI_pos' (by omega))]
/-- the arrays stay, but for a cell -/
def W1 (to : Int32) (μ μ' : MS) : Prop := μ'.2 = μ.2 ∨ ∃ v, μ'.2 = (sa μ 0 to v).2
/-- what two do where a name must stand: the same fault, or the same person -/
def WH (S A n : Nat) (σ : MS × MS) (μ : MS) (to : Int32) (x : ((MS × MS) × Int32) × Bool) (y : MS × Int32) : Prop :=
  (x.2 = true ∧ FT x.1.1 y.1 ∧ y.2 = 0 ∧ W1 to μ y.1) ∨
  (x.2 = false ∧ y.2 = 1 ∧ ∃ (A' B' p : Nat), A < A' ∧ p < n ∧ x.1.2 = nI p ∧ TK S A' B' x.1.1 y.1 ∧ NXF σ x.1.1 ∧ AHF (sa μ 0 to (nI p)) y.1)
theorem old_0 {base many to : Int32} (a : f_X6_isName μ = 0) : f_X6_oldOne μ base many to = f_X6_fails μ 2 := by
  unfold f_X6_oldOne
  exact if_pos a
theorem old_n {base many to : Int32} (a : f_X6_isName μ = 1) (d : f_X6_findHere μ base many = -1) : f_X6_oldOne μ base many to = f_X6_fails (sa μ 0 to (-1)) 3 := by
  unfold f_X6_oldOne
  dsimp only
  rw [if_neg (by rw [a]; decide), d, if_pos ga_sa_eq]
theorem old_p {base many to : Int32} {p : Nat} (hp : p < 1000) (a : f_X6_isName μ = 1) (d : f_X6_findHere μ base many = nI p) : f_X6_oldOne μ base many to = (f_X6_ahead (sa μ 0 to (nI p)), 1) := by
  unfold f_X6_oldOne
  dsimp only
  rw [if_neg (by rw [a]; decide), d, if_neg (by rw [ga_sa_eq]; exact nI_m1 (by omega))]
theorem wh_st {n : Nat} {base : Int32} (h : TK S A B σ μ) (h0 : Z0 μ) (hN : NMS n base (ttb σ) μ) (to : Int32) : WH S A n σ μ to (f_X7_who σ) (f_X6_oldOne μ base (nI n) to) := by
  have hn := hN.2.1
  rcases kn_st h hN with ⟨a, b⟩ | ⟨a, c, d, b⟩ | ⟨a, c, p, hp, d, b⟩
  · have e1 : f_X7_who σ = ((f_X7_wrong σ, 0), true) := by
      unfold f_X7_who
      dsimp only
      rw [b]
      exact if_pos rfl
    rw [e1, old_0 a]
    have t := ft_wrong h h0
    exact Or.inl ⟨rfl, t.1, t.2.1, Or.inl t.2.2⟩
  · have e1 : f_X7_who σ = ((f_X2_at σ 3 (gi (own σ) 1), 0), true) := by
      unfold f_X7_who
      dsimp only
      rw [b]
      exact if_pos rfl
    rw [e1, old_n a d]
    have t := ft_at (h.sa to (-1)) h0 (by rw [c]; decide) 3 (by decide)
    exact Or.inl ⟨rfl, t.1, t.2.1, Or.inr ⟨-1, t.2.2⟩⟩
  · have e1 : f_X7_who σ = ((f_X7_next σ, nI p), false) := by
      unfold f_X7_who
      dsimp only
      rw [b]
      exact if_neg Bool.false_ne_true
    rw [e1, old_p (by omega) a d]
    have l := tk_lt h (by rw [c]; decide)
    obtain ⟨A', B', h1, h2, h3, h4⟩ := nx_st (h.sa to (nI p))
    exact Or.inr ⟨rfl, rfl, A', B', p, by omega, hp, rfl, h2, h3, h4⟩
theorem ot_st {n : Nat} {base b : Int32} (h : TK S A B σ μ) (h0 : Z0 μ) (hN : NMS n base (ttb σ) μ) (first to : Int32) (hb : ga μ 0 first = b) (hb0 : ¬ b = -1) : WH S A n σ μ to (f_X7_otherThan σ b) (f_X6_otherOne μ base (nI n) first to) := by
  have hn := hN.2.1
  rcases kn_st h hN with ⟨a, k⟩ | ⟨a, c, d, k⟩ | ⟨a, c, p, hp, d, k⟩
  · have e1 : f_X7_otherThan σ b = ((f_X7_wrong σ, 0), true) := by
      unfold f_X7_otherThan
      dsimp only
      rw [k]
      exact if_pos rfl
    have e2 : f_X6_otherOne μ base (nI n) first to = f_X6_oldOne μ base (nI n) to := by
      unfold f_X6_otherOne
      exact if_pos a
    rw [e1, e2, old_0 a]
    have t := ft_wrong h h0
    exact Or.inl ⟨rfl, t.1, t.2.1, Or.inl t.2.2⟩
  · have e1 : f_X7_otherThan σ b = ((f_X2_at σ 3 (gi (own σ) 1), 0), true) := by
      unfold f_X7_otherThan
      dsimp only
      rw [k]
      exact if_pos rfl
    have e2 : f_X6_otherOne μ base (nI n) first to = f_X6_oldOne μ base (nI n) to := by
      unfold f_X6_otherOne
      dsimp only
      rw [if_neg (by rw [a]; decide), d, hb, if_neg (fun q => hb0 q.symm)]
    rw [e1, e2, old_n a d]
    have t := ft_at (h.sa to (-1)) h0 (by rw [c]; decide) 3 (by decide)
    exact Or.inl ⟨rfl, t.1, t.2.1, Or.inr ⟨-1, t.2.2⟩⟩
  · by_cases z : nI p = b
    · have e1 : f_X7_otherThan σ b = ((f_X2_at σ 5 (gi (own σ) 1), 0), true) := by
        unfold f_X7_otherThan
        dsimp only
        rw [k, if_neg Bool.false_ne_true, if_pos z]
      have e2 : f_X6_otherOne μ base (nI n) first to = f_X6_fails μ 5 := by
        unfold f_X6_otherOne
        dsimp only
        rw [if_neg (by rw [a]; decide), d, hb, if_pos z]
      rw [e1, e2]
      have t := ft_at h h0 (by rw [c]; decide) 5 (by decide)
      exact Or.inl ⟨rfl, t.1, t.2.1, Or.inl t.2.2⟩
    · have e1 : f_X7_otherThan σ b = ((f_X7_next σ, nI p), false) := by
        unfold f_X7_otherThan
        dsimp only
        rw [k, if_neg Bool.false_ne_true, if_neg z]
      have e2 : f_X6_otherOne μ base (nI n) first to = f_X6_oldOne μ base (nI n) to := by
        unfold f_X6_otherOne
        dsimp only
        rw [if_neg (by rw [a]; decide), d, hb, if_neg z]
      rw [e1, e2, old_p (by omega) a d]
      have l := tk_lt h (by rw [c]; decide)
      obtain ⟨A', B', h1, h2, h3, h4⟩ := nx_st (h.sa to (nI p))
      exact Or.inr ⟨rfl, rfl, A', B', p, by omega, hp, rfl, h2, h3, h4⟩
end TL
