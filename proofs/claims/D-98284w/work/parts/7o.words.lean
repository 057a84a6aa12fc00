/-! TEXTS: words, both sides; printed by gen/mkwords.py -/
set_option maxRecDepth 100000
def kws : List (List Int32) := [[112, 101, 114, 115, 111, 110], [99, 111, 117, 112, 108, 101], [100, 105, 115, 104], [111, 119, 101, 115], [115, 112, 108, 105, 116], [108, 97, 119], [105, 110, 115, 105, 115, 116, 115], [113, 117, 105, 99, 107], [109, 105, 110, 100, 115], [109, 101, 97, 110, 115], [103, 117, 101, 115, 116], [98, 121], [104, 101, 97, 100, 115], [101, 97, 116, 101, 110], [99, 111, 117, 112, 108, 101, 115], [116, 117, 114, 110], [111, 119, 105, 110, 103], [100, 105, 110, 110, 101, 114], [100, 117, 101, 108], [108, 101, 110, 100], [103, 105, 102, 116], [114, 111, 117, 110, 100], [119, 105, 116, 104], [116, 111], [119, 104, 101, 110], [108, 111, 111, 112], [101, 110, 100], [115, 116, 111, 112], [112, 97, 105, 100]]
def kps : List Nat := [1, 8, 15, 20, 25, 31, 35, 43, 49, 55, 61, 67, 70, 76, 82, 90, 95, 101, 108, 113, 118, 123, 129, 134, 137, 142, 147, 151, 156]
def kpi : List Nat := [17, 18, 19, 20, 21, 27, 28, 3, 15, 12, 13, 14, 16, 7, 6, 0, 8, 9, 10, 1, 2, 11, 4, 5, 22, 23, 24, 25, 26]
theorem kw_f : ∀ w, w < 29 → (kws.getD w []).length ≤ 9 ∧ 1 ≤ (kws.getD w []).length ∧ kps.getD w 0 + (kws.getD w []).length + 1 ≤ 161 ∧ f_X6_inWords_L25 m00 0 0 162 (nI (kps.getD w 0)) = nI (kps.getD w 0 + (kws.getD w []).length) ∧ (∀ j, j < (kws.getD w []).length → kc keysB (nI (kps.getD w 0 + j)) = (kws.getD w []).getD j 0) := by decide +kernel
theorem kw_n : ∀ w, w < 28 → kps.getD (w + 1) 0 = kps.getD w 0 + (kws.getD w []).length + 1 := by decide +kernel
theorem kw_l : kps.getD 28 0 + (kws.getD 28 []).length + 1 = 161 ∧ kps.getD 0 0 = 1 := by decide +kernel
theorem kw_s : ∀ i, i < 29 → kpi.getD i 0 < 29 ∧ strsR.getD i [] = kws.getD (kpi.getD i 0) [] ∧ (∀ j, j < (strsR.getD i []).length → kc (strsR.getD i []) (nI j) = (strsR.getD i []).getD j 0) := by decide +kernel
/-- which of the words it is; none -/
def kF (l : List Int32) : Nat → Nat → Int32
  | 0, _ => -1
  | n + 1, w => if l = kws.getD w [] then nI w else kF l n (w + 1)
def kI (l : List Int32) : Int32 := kF l 29 0
theorem kF_rng (l : List Int32) : ∀ (n w : Nat), n + w = 29 → (kF l n w = -1 ∧ ∀ v, w ≤ v → v < 29 → ¬ l = kws.getD v []) ∨ ∃ v, w ≤ v ∧ v < 29 ∧ kF l n w = nI v ∧ l = kws.getD v []
  | 0, w, h => Or.inl ⟨rfl, fun v h1 h2 => by omega⟩
  | n + 1, w, h => by
    rw [kF]
    by_cases c : l = kws.getD w []
    · rw [if_pos c]; exact Or.inr ⟨w, Nat.le_refl _, by omega, rfl, c⟩
    · rw [if_neg c]
      rcases kF_rng l n (w + 1) (by omega) with ⟨a, b⟩ | ⟨v, a, b, d, e⟩
      · refine Or.inl ⟨a, fun v h1 h2 => ?_⟩
        by_cases q : v = w
        · rw [q]; exact c
        · exact b v (by omega) h2
      · exact Or.inr ⟨v, by omega, b, d, e⟩
theorem kI_rng (l : List Int32) : (kI l = -1 ∧ ∀ v, v < 29 → ¬ l = kws.getD v []) ∨ ∃ v, v < 29 ∧ kI l = nI v ∧ l = kws.getD v [] := by
  rcases kF_rng l 29 0 rfl with ⟨a, b⟩ | ⟨v, -, b, d, e⟩
  · exact Or.inl ⟨a, fun v h => b v (by omega) h⟩
  · exact Or.inr ⟨v, b, d, e⟩
theorem kws_inj : ∀ v, v < 29 → ∀ w, w < 29 → kws.getD v [] = kws.getD w [] → v = w := by decide +kernel
theorem kI_at {l : List Int32} {w : Nat} (hw : w < 29) : kI l = nI w ↔ l = kws.getD w [] := by
  rcases kI_rng l with ⟨a, b⟩ | ⟨v, b, d, e⟩
  · refine ⟨fun q => ?_, fun q => absurd q (b w hw)⟩
    rw [a] at q
    have := congrArg Int32.toInt q
    rw [nI_toInt (by omega), z_m1] at this
    omega
  · refine ⟨fun q => ?_, fun q => ?_⟩
    · rw [d] at q
      have := congrArg Int32.toInt q
      rw [nI_toInt (by omega), nI_toInt (by omega)] at this
      rw [e, show v = w by omega]
    · rw [d, kws_inj v b w hw (e.symm.trans q)]
def tokL (σ : MS × MS) (A B : Nat) : List Int32 := (List.range (B - A)).map (fun k => bt σ (A + k))
theorem tokL_eq {σ : MS × MS} {A B : Nat} {s : List Int32} : tokL σ A B = s ↔ B - A = s.length ∧ ∀ j, j < s.length → bt σ (A + j) = s.getD j 0 := by
  constructor
  · intro h
    have hl : B - A = s.length := by rw [← h]; unfold tokL; rw [List.length_map, List.length_range]
    refine ⟨hl, fun j hj => ?_⟩
    rw [← h]
    unfold tokL
    rw [List.getD_eq_getElem?_getD, List.getElem?_map, List.getElem?_range (by omega)]
    rfl
  · rintro ⟨h1, h2⟩
    refine List.ext_getElem? (fun j => ?_)
    unfold tokL
    by_cases hj : j < s.length
    · rw [List.getElem?_map, List.getElem?_range (by omega), List.getElem?_eq_getElem hj]
      have := h2 j hj
      rw [List.getD_eq_getElem?_getD, List.getElem?_eq_getElem hj] at this
      exact congrArg some this
    · rw [List.getElem?_eq_none (by rw [List.length_map, List.length_range]; omega), List.getElem?_eq_none (by omega)]
section WD
variable {S A B : Nat} {σ : MS × MS} {μ : MS}
theorem isW_L {i : Nat} (hi : i < 29) (h : TK S A B σ μ) : ∀ (n x : Nat), x ≤ (strsR.getD i []).length → (strsR.getD i []).length < n + x →
    (f_X7_isWord_L28 σ i n (nI x) = 1 ∧ ∀ j, x ≤ j → j < (strsR.getD i []).length → bt σ (A + j) = (strsR.getD i []).getD j 0) ∨ (f_X7_isWord_L28 σ i n (nI x) = 0 ∧ ¬ ∀ j, x ≤ j → j < (strsR.getD i []).length → bt σ (A + j) = (strsR.getD i []).getD j 0) := by
  have hl := strs_len9 i hi
  have hS := h.1.1
  have hAB := h.2.2.2.1
  intro n
  induction n with
  | zero => intro x h1 h2; omega
  | succ n ih =>
    intro x h1 h2
    rw [f_X7_isWord_L28]
    by_cases c : (strsR.getD i []).length ≤ x
    · rw [if_pos (Int32.le_iff_toInt_le.mpr (by rw [nI_toInt (by omega), nI_toInt (by omega)]; omega))]
      exact Or.inl ⟨rfl, fun j a b => by omega⟩
    · rw [if_neg (fun q => by have := c_le q; rw [nI_toInt (by omega), nI_toInt (by omega)] at this; omega), h.2.1.1, nI_add, (kw_s i hi).2.2 x (by omega), nI_1]
      have eb : ga (own σ) 1 (nI (A + x)) = bt σ (A + x) := rfl
      rw [eb]
      by_cases c2 : bt σ (A + x) = (strsR.getD i []).getD x 0
      · rw [if_pos c2]
        rcases ih (x + 1) (by omega) (by omega) with ⟨a, b⟩ | ⟨a, b⟩
        · refine Or.inl ⟨a, fun j h3 h4 => ?_⟩
          by_cases e : j = x
          · rw [e]; exact c2
          · exact b j (by omega) h4
        · exact Or.inr ⟨a, fun q => b (fun j h3 h4 => q j (by omega) h4)⟩
      · rw [if_neg c2]
        exact Or.inr ⟨rfl, fun q => c2 (q x (Nat.le_refl _) (by omega))⟩
theorem isW_e {i : Nat} (hi : i < 29) (h : TK S A B σ μ) : (¬ gi (own σ) 3 = 1 → f_X7_isWord σ i = 0) ∧ (gi (own σ) 3 = 1 → (f_X7_isWord σ i = 1 ∧ tokL σ A B = strsR.getD i []) ∨ (f_X7_isWord σ i = 0 ∧ ¬ tokL σ A B = strsR.getD i [])) := by
  have hl := strs_len9 i hi
  have hS := h.1.1
  have hAB := h.2.2.2.1
  unfold f_X7_isWord
  refine ⟨fun c => by rw [if_neg c], fun c => ?_⟩
  rw [if_pos c, h.2.1.1, h.2.2.1.1]
  have pA : (nI B - nI A : Int32).toInt = (B : Int) - A := i_sub (nI_toInt (by omega)) (nI_toInt (by omega)) (by omega)
  by_cases cl : B - A = (strsR.getD i []).length
  · rw [if_pos (Int32.toInt_inj.mp (by rw [pA, nI_toInt (by omega)]; omega))]
    have q := isW_L hi h 10 0 (by omega) (by omega)
    rw [nI_0] at q
    rcases q with ⟨a, b⟩ | ⟨a, b⟩
    · exact Or.inl ⟨a, tokL_eq.mpr ⟨cl, fun j hj => b j (by omega) hj⟩⟩
    · exact Or.inr ⟨a, fun z => b (fun j _ hj => (tokL_eq.mp z).2 j hj)⟩
  · rw [if_neg (fun q => by have := congrArg Int32.toInt q; rw [pA, nI_toInt (by omega)] at this; omega)]
    exact Or.inr ⟨rfl, fun z => cl (tokL_eq.mp z).1⟩
theorem L25_any : ∀ (n : Nat) (σ : MS) (a b x : Int32), f_X6_inWords_L25 σ a b n x = f_X6_inWords_L25 m00 0 0 n x
  | 0, _, _, _, _ => rfl
  | n + 1, σ, a, b, x => by
    rw [f_X6_inWords_L25, f_X6_inWords_L25]
    split
    · rfl
    · exact L25_any n σ a b _
theorem inW_L68 {w : Nat} (hw : w < 29) (h : TK S A B σ μ) (h1 : gi (own σ) 3 = 1) (hl : B - A = (kws.getD w []).length) (a : Int32) : ∀ (n x : Nat), x ≤ (kws.getD w []).length → (kws.getD w []).length < n + x →
    ((f_X6_inWords_L68 μ a (nI (kps.getD w 0)) (nI (kps.getD w 0 + (kws.getD w []).length)) n 1 (nI (kps.getD w 0 + x))).1 = 1 ∧ ∀ j, x ≤ j → j < (kws.getD w []).length → bt σ (A + j) = (kws.getD w []).getD j 0) ∨ ((f_X6_inWords_L68 μ a (nI (kps.getD w 0)) (nI (kps.getD w 0 + (kws.getD w []).length)) n 1 (nI (kps.getD w 0 + x))).1 = 0 ∧ ¬ ∀ j, x ≤ j → j < (kws.getD w []).length → bt σ (A + j) = (kws.getD w []).getD j 0) := by
  obtain ⟨f1, f2, f3, f4, f5⟩ := kw_f w hw
  have hS := h.1.1
  have hAB := h.2.2.2.1
  intro n
  induction n with
  | zero => intro x h2 h3; omega
  | succ n ih =>
    intro x h2 h3
    rw [f_X6_inWords_L68]
    by_cases c : (kws.getD w []).length ≤ x
    · rw [if_pos (Int32.le_iff_toInt_le.mpr (by rw [nI_toInt (by omega), nI_toInt (by omega)]; omega))]
      exact Or.inl ⟨rfl, fun j a b => by omega⟩
    · rw [if_neg (fun q => by have := c_le q; rw [nI_toInt (by omega), nI_toInt (by omega)] at this; omega), if_neg (show ¬ (1 : Int32) = 0 by decide)]
      dsimp only
      have e1 : (gi μ 13 + nI (kps.getD w 0 + x)) - nI (kps.getD w 0) = nI (A + x) := by
        rw [h.2.1.2, nI_add]
        exact Int32.toInt_inj.mp ((i_sub (nI_toInt (by omega)) (nI_toInt (by omega)) (by omega)).trans (by rw [nI_toInt (by omega)]; omega))
      have hlt : A + x < S := by omega
      have lt := h.2.2.2.2.2.2.2.1 h1 (A + x) (by omega) (by omega)
      unfold isLt at lt
      have e2 : bt σ (A + x) &&& 255 = bt σ (A + x) := (isB_f (h.1.b hlt)).2.2.2.2.2.2.2.2.2 (Int32.le_iff_toInt_le.mpr (by rw [z_0]; omega))
      rw [e1, h.1.at hlt, e2, f5 x (by omega), nI_1]
      by_cases c2 : (kws.getD w []).getD x 0 = bt σ (A + x)
      · rw [if_pos c2]
        rcases ih (x + 1) (by omega) (by omega) with ⟨a, b⟩ | ⟨a, b⟩
        · refine Or.inl ⟨a, fun j h3 h4 => ?_⟩
          by_cases e : j = x
          · rw [e]; exact c2.symm
          · exact b j (by omega) h4
        · exact Or.inr ⟨a, fun q => b (fun j h3 h4 => q j (by omega) h4)⟩
      · rw [if_neg c2]
        refine Or.inr ⟨?_, fun q => c2 (q x (Nat.le_refl _) (by omega)).symm⟩
        cases n with
        | zero => rfl
        | succ n =>
          rw [f_X6_inWords_L68]
          split
          · rfl
          · rfl
theorem inW_e (h : TK S A B σ μ) : (¬ gi (own σ) 3 = 1 → f_X6_inWords μ = -1) ∧ (gi (own σ) 3 = 1 → f_X6_inWords μ = kI (tokL σ A B)) := by
  have hS := h.1.1
  have hAB := h.2.2.2.1
  have ht := h.2.2.2.2.1
  unfold f_X6_inWords
  refine ⟨fun c => ?_, fun c => ?_⟩
  · rw [if_neg (fun q => by
      rcases ht with ⟨a, b⟩ | ⟨a, b⟩ | ⟨a, b⟩ | ⟨a, b⟩ | ⟨a, b⟩
      · rw [b] at q; exact absurd q (by decide)
      · exact c a
      · rw [b] at q; exact absurd q (by decide)
      · rw [b] at q; exact absurd q (by decide)
      · rw [b] at q; exact absurd q (by decide))]
  · rw [if_pos (by
      rcases ht with ⟨a, b⟩ | ⟨a, b⟩ | ⟨a, b⟩ | ⟨a, b⟩ | ⟨a, b⟩
      · rw [c] at a; exact absurd a (by decide)
      · exact b
      · rw [c] at a; exact absurd a (by decide)
      · rw [c] at a; exact absurd a (by decide)
      · rw [c] at a; exact absurd a (by decide))]
    have go : ∀ (n m w : Nat), n + w = 29 → n < m → f_X6_inWords_L14 μ m (nI w) (nI (if w < 29 then kps.getD w 0 else 161)) = kF (tokL σ A B) n w := by
      intro n
      induction n with
      | zero =>
        intro m w h1 h2
        obtain ⟨m, rfl⟩ : ∃ m', m = m' + 1 := ⟨m - 1, by omega⟩
        rw [f_X6_inWords_L14, if_neg (show ¬ w < 29 by omega), if_pos (by decide)]
        rfl
      | succ n ih =>
        intro m w h1 h2
        obtain ⟨m, rfl⟩ : ∃ m', m = m' + 1 := ⟨m - 1, by omega⟩
        have hw : w < 29 := by omega
        obtain ⟨f1, f2, f3, f4, f5⟩ := kw_f w hw
        rw [f_X6_inWords_L14, if_pos hw, if_neg (fun q => by have := c_le q; rw [nI_toInt (by omega), show (161 : Int32).toInt = 161 from rfl] at this; omega)]
        dsimp only
        rw [L25_any, f4, h.2.2.1.2, h.2.1.2]
        have pA : (nI B - nI A : Int32).toInt = (B : Int) - A := i_sub (nI_toInt (by omega)) (nI_toInt (by omega)) (by omega)
        have pB : (nI (kps.getD w 0 + (kws.getD w []).length) - nI (kps.getD w 0) : Int32).toInt = ((kws.getD w []).length : Int) := (i_sub (nI_toInt (by omega)) (nI_toInt (by omega)) (by omega)).trans (by omega)
        have nx : f_X6_inWords_L14 μ m (nI w + 1) (nI (kps.getD w 0 + (kws.getD w []).length) + 1) = kF (tokL σ A B) n (w + 1) := by
          rw [nI_1, nI_1]
          have e : (if w + 1 < 29 then kps.getD (w + 1) 0 else 161) = kps.getD w 0 + (kws.getD w []).length + 1 := by
            by_cases c2 : w + 1 < 29
            · rw [if_pos c2]; exact kw_n w (by omega)
            · rw [if_neg c2]
              have : w = 28 := by omega
              subst this
              exact kw_l.1.symm
          have := ih m (w + 1) (by omega) (by omega)
          rw [e] at this
          exact this
        rw [kF]
        by_cases cl : B - A = (kws.getD w []).length
        · rw [if_pos (show nI (kps.getD w 0 + (kws.getD w []).length) - nI (kps.getD w 0) = nI B - nI A from Int32.toInt_inj.mp (by rw [pA, pB]; omega))]
          have q := inW_L68 hw h c cl (nI w) 162 0 (by omega) (by omega)
          rw [Nat.add_zero] at q
          rcases q with ⟨a, b⟩ | ⟨a, b⟩
          · rw [a, if_neg (show ¬ (1 : Int32) = 0 by decide), if_pos (tokL_eq.mpr ⟨cl, fun j hj => b j (by omega) hj⟩)]
          · rw [a, if_pos rfl, if_neg (fun z => b (fun j _ hj => (tokL_eq.mp z).2 j hj))]
            exact nx
        · have e0 : (f_X6_inWords_L68 μ (nI w) (nI (kps.getD w 0)) (nI (kps.getD w 0 + (kws.getD w []).length)) 162 0 (nI (kps.getD w 0))).1 = 0 := by
            rw [f_X6_inWords_L68]
            split
            · rfl
            · rfl
          rw [if_neg (show ¬ nI (kps.getD w 0 + (kws.getD w []).length) - nI (kps.getD w 0) = nI B - nI A from fun q => by have := congrArg Int32.toInt q; rw [pA, pB] at this; omega), e0, if_pos rfl, if_neg (fun z => cl (tokL_eq.mp z).1)]
          exact nx
    exact go 29 162 0 rfl (by omega)
/-- a word here, a word there -/
theorem wd (h : TK S A B σ μ) {i : Nat} (hi : i < 29) : (f_X7_isWord σ i = 0 ↔ ¬ f_X6_inWords μ = nI (kpi.getD i 0)) ∧ (f_X7_isWord σ i = 0 ∨ f_X7_isWord σ i = 1) := by
  obtain ⟨a1, a2⟩ := isW_e hi h
  obtain ⟨b1, b2⟩ := inW_e h
  obtain ⟨k1, k2, -⟩ := kw_s i hi
  by_cases c : gi (own σ) 3 = 1
  · rw [b2 c, kI_at k1, ← k2]
    rcases a2 c with ⟨p, q⟩ | ⟨p, q⟩
    · exact ⟨⟨fun z => by rw [p] at z; exact absurd z (by decide), fun z => absurd q z⟩, Or.inr p⟩
    · exact ⟨⟨fun _ => q, fun _ => p⟩, Or.inl p⟩
  · rw [b1 c]
    refine ⟨⟨fun _ q => ?_, fun _ => a1 c⟩, Or.inl (a1 c)⟩
    have := congrArg Int32.toInt q
    rw [nI_toInt (by omega), z_m1] at this
    omega
theorem inW_rng (h : TK S A B σ μ) : f_X6_inWords μ = -1 ∨ ∃ w, w < 29 ∧ f_X6_inWords μ = nI w ∧ gi (own σ) 3 = 1 ∧ tokL σ A B = kws.getD w [] := by
  obtain ⟨b1, b2⟩ := inW_e h
  by_cases c : gi (own σ) 3 = 1
  · rw [b2 c]
    rcases kI_rng (tokL σ A B) with ⟨a, -⟩ | ⟨v, b, d, e⟩
    · exact Or.inl a
    · exact Or.inr ⟨v, b, d, c, e⟩
  · exact Or.inl (b1 c)
theorem kpi_all : ∀ w, w < 29 → ∃ i, i < 29 ∧ kpi.getD i 0 = w := by decide +kernel
theorem kept_one (σ : MS × MS) (z : ∀ i, i < 29 → (f_X7_isWord σ i = 0 ∨ f_X7_isWord σ i = 1)) (i : Nat) (hi : i < 29) (h1 : ¬ f_X7_isWord σ i = 0) : f_X7_isKept σ = 1 := by
  have p0 : (0 : Int32) ≤ 0 := by decide
  have p1 : (0 : Int32) ≤ 1 := by decide
  have p2 : (0 : Int32) ≤ 2 := by decide
  have p3 : (0 : Int32) ≤ 3 := by decide
  have p4 : (0 : Int32) ≤ 4 := by decide
  have p5 : (0 : Int32) ≤ 5 := by decide
  have n0 : ¬ (0 : Int32) < 0 := by decide
  have n1 : ¬ (1 : Int32) < 0 := by decide
  have n2 : ¬ (2 : Int32) < 0 := by decide
  have n3 : ¬ (3 : Int32) < 0 := by decide
  have m1 : ¬ (0 : Int32) ≤ -1 := by decide
  have e1 : ¬ (1 : Int32) = 0 := by decide
  have hc : i = 0 ∨ i = 1 ∨ i = 2 ∨ i = 3 ∨ i = 4 ∨ i = 5 ∨ i = 6 ∨ i = 7 ∨ i = 8 ∨ i = 9 ∨ i = 10 ∨ i = 11 ∨ i = 12 ∨ i = 13 ∨ i = 14 ∨ i = 15 ∨ i = 16 ∨ i = 17 ∨ i = 18 ∨ i = 19 ∨ i = 20 ∨ i = 21 ∨ i = 22 ∨ i = 23 ∨ i = 24 ∨ i = 25 ∨ i = 26 ∨ i = 27 ∨ i = 28 := by omega
  have acts : (∀ j, j < 6 → f_X7_isWord σ j = 0) ∨ 0 ≤ f_X7_acts σ := by
    unfold f_X7_acts
    by_cases a0 : f_X7_isWord σ 0 = 0
    · by_cases a1 : f_X7_isWord σ 1 = 0
      · by_cases a2 : f_X7_isWord σ 2 = 0
        · by_cases a3 : f_X7_isWord σ 3 = 0
          · by_cases a4 : f_X7_isWord σ 4 = 0
            · by_cases a5 : f_X7_isWord σ 5 = 0
              · exact Or.inl (fun j hj => by
                  rcases (show j = 0 ∨ j = 1 ∨ j = 2 ∨ j = 3 ∨ j = 4 ∨ j = 5 by omega) with rfl | rfl | rfl | rfl | rfl | rfl <;> assumption)
              · simp only [if_pos a0, if_pos a1, if_pos a2, if_pos a3, if_pos a4, if_neg a5]; exact Or.inr p5
            · simp only [if_pos a0, if_pos a1, if_pos a2, if_pos a3, if_neg a4]; exact Or.inr p4
          · simp only [if_pos a0, if_pos a1, if_pos a2, if_neg a3]; exact Or.inr p3
        · simp only [if_pos a0, if_pos a1, if_neg a2]; exact Or.inr p2
      · simp only [if_pos a0, if_neg a1]; exact Or.inr p1
    · simp only [if_neg a0]; exact Or.inr p0
  have tests : (f_X7_isWord σ 6 = 0 ∧ f_X7_isWord σ 7 = 0 ∧ f_X7_isWord σ 8 = 0) ∨ 0 ≤ f_X7_tests σ := by
    unfold f_X7_tests
    by_cases a0 : f_X7_isWord σ 6 = 0
    · by_cases a1 : f_X7_isWord σ 7 = 0
      · by_cases a2 : f_X7_isWord σ 8 = 0
        · exact Or.inl ⟨a0, a1, a2⟩
        · simp only [if_pos a0, if_pos a1, if_neg a2]; exact Or.inr p2
      · simp only [if_pos a0, if_neg a1]; exact Or.inr p1
    · simp only [if_neg a0]; exact Or.inr p0
  have splits : (f_X7_isWord σ 9 = 0 ∧ f_X7_isWord σ 10 = 0 ∧ f_X7_isWord σ 11 = 0) ∨ 0 ≤ f_X7_splits σ := by
    unfold f_X7_splits
    by_cases a0 : f_X7_isWord σ 9 = 0
    · by_cases a1 : f_X7_isWord σ 10 = 0
      · by_cases a2 : f_X7_isWord σ 11 = 0
        · exact Or.inl ⟨a0, a1, a2⟩
        · simp only [if_pos a0, if_pos a1, if_neg a2]; exact Or.inr p2
      · simp only [if_pos a0, if_neg a1]; exact Or.inr p1
    · simp only [if_neg a0]; exact Or.inr p0
  have laws : (f_X7_isWord σ 8 = 0 ∧ f_X7_isWord σ 12 = 0 ∧ f_X7_isWord σ 13 = 0 ∧ f_X7_isWord σ 14 = 0) ∨ ¬ f_X7_laws σ < 0 := by
    unfold f_X7_laws
    by_cases a0 : f_X7_isWord σ 8 = 0
    · by_cases a1 : f_X7_isWord σ 12 = 0
      · by_cases a2 : f_X7_isWord σ 13 = 0
        · by_cases a3 : f_X7_isWord σ 14 = 0
          · exact Or.inl ⟨a0, a1, a2, a3⟩
          · simp only [if_pos a0, if_pos a1, if_pos a2, if_neg a3]; exact Or.inr n3
        · simp only [if_pos a0, if_pos a1, if_neg a2]; exact Or.inr n2
      · simp only [if_pos a0, if_neg a1]; exact Or.inr n1
    · simp only [if_neg a0]; exact Or.inr n0
  unfold f_X7_isKept
  dsimp only
  by_cases A9 : (f_X7_isWord σ 15 = 0 ∧ f_X7_isWord σ 16 = 0 ∧ f_X7_isWord σ 17 = 0 ∧ f_X7_isWord σ 18 = 0 ∧ f_X7_isWord σ 19 = 0 ∧ f_X7_isWord σ 20 = 0 ∧ f_X7_isWord σ 21 = 0 ∧ f_X7_isWord σ 22 = 0 ∧ f_X7_isWord σ 23 = 0)
  · obtain ⟨y15, y16, y17, y18, y19, y20, y21, y22, y23⟩ := A9
    by_cases B9 : (f_X7_isWord σ 24 = 0 ∧ f_X7_isWord σ 25 = 0 ∧ f_X7_isWord σ 26 = 0 ∧ f_X7_isWord σ 27 = 0 ∧ f_X7_isWord σ 28 = 0)
    · obtain ⟨y24, y25, y26, y27, y28⟩ := B9
      simp only [y15, y16, y17, y18, y19, y20, y21, y22, y23, y24, y25, y26, y27, y28, if_true]
      by_cases C1 : 0 ≤ f_X7_acts σ
      · rw [if_pos C1]
      · rw [if_neg C1]
        by_cases C2 : 0 ≤ f_X7_tests σ
        · rw [if_pos C2]
        · rw [if_neg C2]
          by_cases C3 : 0 ≤ f_X7_splits σ
          · rw [if_pos C3]
          · rw [if_neg C3]
            by_cases C4 : f_X7_laws σ < 0
            · exfalso
              have a := acts.resolve_right C1
              obtain ⟨t1, t2, t3⟩ := tests.resolve_right C2
              obtain ⟨s1, s2, s3⟩ := splits.resolve_right C3
              obtain ⟨-, l2, l3, l4⟩ := laws.resolve_right (fun z => z C4)
              have b0 := a 0 (by decide)
              have b1 := a 1 (by decide)
              have b2 := a 2 (by decide)
              have b3 := a 3 (by decide)
              have b4 := a 4 (by decide)
              have b5 := a 5 (by decide)
              rcases hc with rfl | rfl | rfl | rfl | rfl | rfl | rfl | rfl | rfl | rfl | rfl | rfl | rfl | rfl | rfl | rfl | rfl | rfl | rfl | rfl | rfl | rfl | rfl | rfl | rfl | rfl | rfl | rfl | rfl <;> exact h1 (by assumption)
            · rw [if_neg C4]
    · have e : (if f_X7_isWord σ 24 = 0 then (if f_X7_isWord σ 25 = 0 then (if f_X7_isWord σ 26 = 0 then (if f_X7_isWord σ 27 = 0 then (if f_X7_isWord σ 28 = 0 then (0 : Int32) else 1) else 1) else 1) else 1) else 1) = (1 : Int32) := by
        by_cases x24 : f_X7_isWord σ 24 = 0
        · rw [if_pos x24]
          by_cases x25 : f_X7_isWord σ 25 = 0
          · rw [if_pos x25]
            by_cases x26 : f_X7_isWord σ 26 = 0
            · rw [if_pos x26]
              by_cases x27 : f_X7_isWord σ 27 = 0
              · rw [if_pos x27]
                by_cases x28 : f_X7_isWord σ 28 = 0
                · rw [if_pos x28]
                  exact absurd ⟨x24, x25, x26, x27, x28⟩ B9
                · rw [if_neg x28]
              · rw [if_neg x27]
            · rw [if_neg x26]
          · rw [if_neg x25]
        · rw [if_neg x24]
      simp only [y15, y16, y17, y18, y19, y20, y21, y22, y23, if_true, e, if_neg e1]
  · have e : (if f_X7_isWord σ 15 = 0 then (if f_X7_isWord σ 16 = 0 then (if f_X7_isWord σ 17 = 0 then (if f_X7_isWord σ 18 = 0 then (if f_X7_isWord σ 19 = 0 then (if f_X7_isWord σ 20 = 0 then (if f_X7_isWord σ 21 = 0 then (if f_X7_isWord σ 22 = 0 then (if f_X7_isWord σ 23 = 0 then (0 : Int32) else 1) else 1) else 1) else 1) else 1) else 1) else 1) else 1) else 1) = (1 : Int32) := by
      by_cases x15 : f_X7_isWord σ 15 = 0
      · rw [if_pos x15]
        by_cases x16 : f_X7_isWord σ 16 = 0
        · rw [if_pos x16]
          by_cases x17 : f_X7_isWord σ 17 = 0
          · rw [if_pos x17]
            by_cases x18 : f_X7_isWord σ 18 = 0
            · rw [if_pos x18]
              by_cases x19 : f_X7_isWord σ 19 = 0
              · rw [if_pos x19]
                by_cases x20 : f_X7_isWord σ 20 = 0
                · rw [if_pos x20]
                  by_cases x21 : f_X7_isWord σ 21 = 0
                  · rw [if_pos x21]
                    by_cases x22 : f_X7_isWord σ 22 = 0
                    · rw [if_pos x22]
                      by_cases x23 : f_X7_isWord σ 23 = 0
                      · rw [if_pos x23]
                        exact absurd ⟨x15, x16, x17, x18, x19, x20, x21, x22, x23⟩ A9
                      · rw [if_neg x23]
                    · rw [if_neg x22]
                  · rw [if_neg x21]
                · rw [if_neg x20]
              · rw [if_neg x19]
            · rw [if_neg x18]
          · rw [if_neg x17]
        · rw [if_neg x16]
      · rw [if_neg x15]
    simp only [e, if_neg e1]
/-- a word that may not be a name -/
theorem kept_e (h : TK S A B σ μ) : (f_X7_isKept σ = 0 ↔ f_X6_inWords μ = -1) ∧ (f_X7_isKept σ = 0 ∨ f_X7_isKept σ = 1) := by
  have w0 := wd h (i := 0) (by decide)
  have w1 := wd h (i := 1) (by decide)
  have w2 := wd h (i := 2) (by decide)
  have w3 := wd h (i := 3) (by decide)
  have w4 := wd h (i := 4) (by decide)
  have w5 := wd h (i := 5) (by decide)
  have w6 := wd h (i := 6) (by decide)
  have w7 := wd h (i := 7) (by decide)
  have w8 := wd h (i := 8) (by decide)
  have w9 := wd h (i := 9) (by decide)
  have w10 := wd h (i := 10) (by decide)
  have w11 := wd h (i := 11) (by decide)
  have w12 := wd h (i := 12) (by decide)
  have w13 := wd h (i := 13) (by decide)
  have w14 := wd h (i := 14) (by decide)
  have w15 := wd h (i := 15) (by decide)
  have w16 := wd h (i := 16) (by decide)
  have w17 := wd h (i := 17) (by decide)
  have w18 := wd h (i := 18) (by decide)
  have w19 := wd h (i := 19) (by decide)
  have w20 := wd h (i := 20) (by decide)
  have w21 := wd h (i := 21) (by decide)
  have w22 := wd h (i := 22) (by decide)
  have w23 := wd h (i := 23) (by decide)
  have w24 := wd h (i := 24) (by decide)
  have w25 := wd h (i := 25) (by decide)
  have w26 := wd h (i := 26) (by decide)
  have w27 := wd h (i := 27) (by decide)
  have w28 := wd h (i := 28) (by decide)
  have m1 : ¬ (0 : Int32) ≤ -1 := by decide
  rcases inW_rng h with q | ⟨w, hw, q, -, -⟩
  · have z : ∀ i, i < 29 → f_X7_isWord σ i = 0 := fun i hi => ((wd h hi).1).mpr (fun e => by
      rw [q] at e
      have := congrArg Int32.toInt e
      have k := (kw_s i hi).1
      rw [nI_toInt (by omega), z_m1] at this
      omega)
    rw [q]
    unfold f_X7_isKept f_X7_acts f_X7_tests f_X7_splits f_X7_laws
    simp only [z 0 (by decide), z 1 (by decide), z 2 (by decide), z 3 (by decide), z 4 (by decide), z 5 (by decide), z 6 (by decide), z 7 (by decide), z 8 (by decide), z 9 (by decide), z 10 (by decide), z 11 (by decide), z 12 (by decide), z 13 (by decide), z 14 (by decide), z 15 (by decide), z 16 (by decide), z 17 (by decide), z 18 (by decide), z 19 (by decide), z 20 (by decide), z 21 (by decide), z 22 (by decide), z 23 (by decide), z 24 (by decide), z 25 (by decide), z 26 (by decide), z 27 (by decide), z 28 (by decide), if_true, if_neg m1, if_pos (show (-1 : Int32) < 0 by decide)]
    first | exact ⟨trivial, Or.inl trivial⟩ | exact ⟨⟨fun _ => rfl, fun _ => rfl⟩, Or.inl rfl⟩ | trivial
  · have hk : f_X7_isKept σ = 1 := by
      have z : ∀ i, i < 29 → (f_X7_isWord σ i = 0 ∨ f_X7_isWord σ i = 1) := fun i hi => (wd h hi).2
      obtain ⟨i, hi, ei⟩ := kpi_all w hw
      have one : ¬ f_X7_isWord σ i = 0 := fun e => ((wd h hi).1.mp e) (by rw [q, ei])
      exact kept_one σ z i hi one
    rw [q, hk]
    refine ⟨⟨fun e => absurd e (by decide), fun e => ?_⟩, Or.inr rfl⟩
    have := congrArg Int32.toInt e
    rw [nI_toInt (by omega), z_m1] at this
    omega
end WD
