/-! TEXTS: the two readers' tokens -/
set_option maxRecDepth 100000
/-- a byte, signed; what the reference sees of it -/
def isB (b : Int32) : Prop := -128 ≤ b.toInt ∧ b.toInt ≤ 127
def byD (k : Nat) : Int32 := nI k - 128
theorem isB_k {b : Int32} (h : isB b) : ∃ k : Nat, k < 256 ∧ b = byD k := by
  refine ⟨(b.toInt + 128).toNat, by unfold isB at h; omega, Int32.toInt_inj.mp ?_⟩
  unfold isB at h
  exact (i_sub (nI_toInt (n := (b.toInt + 128).toNat) (by omega)) (show (128 : Int32).toInt = 128 from rfl) (by omega)).symm ▸ (by omega)
theorem by_k : ∀ k, k < 256 → ((byD k &&& 255 = 32) ↔ (byD k = 32)) ∧ ((byD k &&& 255 = 10) ↔ (byD k = 10)) ∧ ((byD k &&& 255 = 59) ↔ (byD k = 59)) ∧ ((byD k &&& 255 = 60) ↔ (byD k = 60)) ∧ ((byD k &&& 255 = 62) ↔ (byD k = 62)) ∧ ((byD k &&& 255 = 61) ↔ (byD k = 61)) ∧ (f_X6_isSmall (byD k &&& 255) = 0 ↔ (byD k < 97 ∨ 122 < byD k)) ∧ (f_X6_isDigit (byD k &&& 255) = 0 ↔ (byD k < 48 ∨ 57 < byD k)) ∧ ¬ (byD k &&& 255 = -1) ∧ (0 ≤ byD k → byD k &&& 255 = byD k) := by decide +kernel
theorem isB_f {b : Int32} (h : isB b) : ((b &&& 255 = 32) ↔ (b = 32)) ∧ ((b &&& 255 = 10) ↔ (b = 10)) ∧ ((b &&& 255 = 59) ↔ (b = 59)) ∧ ((b &&& 255 = 60) ↔ (b = 60)) ∧ ((b &&& 255 = 62) ↔ (b = 62)) ∧ ((b &&& 255 = 61) ↔ (b = 61)) ∧ (f_X6_isSmall (b &&& 255) = 0 ↔ (b < 97 ∨ 122 < b)) ∧ (f_X6_isDigit (b &&& 255) = 0 ↔ (b < 48 ∨ 57 < b)) ∧ ¬ (b &&& 255 = -1) ∧ (0 ≤ b → b &&& 255 = b) := by
  obtain ⟨k, hk, rfl⟩ := isB_k h
  exact by_k k hk
/-- the two look at one text of S bytes -/
def TX (S : Nat) (σ : MS × MS) (μ : MS) : Prop := S ≤ 900 ∧ gi (own σ) 0 = nI S ∧ gi μ 11 = nI S ∧ ∀ k : Nat, k < S → ga (own σ) 1 (nI k) = ga μ 9 (nI k) ∧ isB (ga (own σ) 1 (nI k))
/-- the byte at a place -/
def bt (σ : MS × MS) (k : Nat) : Int32 := ga (own σ) 1 (nI k)
section TOK
variable {S : Nat} {σ : MS × MS} {μ : MS}
theorem TX.at (h : TX S σ μ) {k : Nat} (hk : k < S) : f_X6_byteAt μ (nI k) = bt σ k &&& 255 := by
  unfold f_X6_byteAt
  rw [h.2.2.1, if_neg (fun q => by have := c_le q; rw [nI_toInt (by have := h.1; omega), nI_toInt (by have := h.1; omega)] at this; omega), ← (h.2.2.2 k hk).1]
  rfl
theorem TX.over (h : TX S σ μ) {k : Nat} (hk : S ≤ k) (hk2 : k ≤ 1000) : f_X6_byteAt μ (nI k) = -1 := by
  unfold f_X6_byteAt
  rw [h.2.2.1, if_pos (Int32.le_iff_toInt_le.mpr (by rw [nI_toInt (by have := h.1; omega), nI_toInt (by omega)]; omega))]
theorem TX.b (h : TX S σ μ) {k : Nat} (hk : k < S) : isB (bt σ k) := (h.2.2.2 k hk).2
/-- it asks for the text's size and its bytes alone -/
theorem TX.of {σ' : MS × MS} {μ' : MS} (h : TX S σ μ) (h0 : gi (own σ') 0 = gi (own σ) 0) (h1 : ∀ j, ga (own σ') 1 j = ga (own σ) 1 j) (h2 : gi μ' 11 = gi μ 11) (h3 : ∀ j, ga μ' 9 j = ga μ 9 j) : TX S σ' μ' :=
  ⟨h.1, h0.trans h.2.1, h2.trans h.2.2.1, fun k hk => by rw [h1, h3]; exact h.2.2.2 k hk⟩
theorem lsi_lsi {k : Nat} {a b : Int32} : lsi (lsi σ k a) k b = lsi σ k b := Prod.ext (si_si) rfl
/-- blanks are passed -/
theorem tk_skip (h : TX S σ μ) : ∀ (n p : Nat), p ≤ S → S < n + p → ∃ q : Nat, p ≤ q ∧ q ≤ S ∧ f_X7_next_L8 n (lsi σ 1 (nI p)) = lsi σ 1 (nI q) ∧ f_X6_ahead_L0 n (si μ 14 (nI p)) = si μ 14 (nI q) ∧ (q < S → ¬ bt σ q = 10 ∧ ¬ bt σ q = 32) := by
  have hS := h.1
  intro n
  induction n with
  | zero => intro p h1 h2; omega
  | succ n ih =>
    intro p h1 h2
    rw [f_X7_next_L8, f_X6_ahead_L0]
    dsimp only
    have e1 : gi (own (lsi σ 1 (nI p))) 1 = nI p := rfl
    have e0 : gi (own (lsi σ 1 (nI p))) 0 = nI S := h.2.1
    have e2 : gi (si μ 14 (nI p)) 14 = nI p := rfl
    have h' : TX S (lsi σ 1 (nI p)) (si μ 14 (nI p)) := h.of rfl (fun _ => rfl) rfl (fun _ => rfl)
    rw [e1, e0, e2]
    by_cases c : p < S
    · have b := isB_f (h.b c)
      have eb : ga (own (lsi σ 1 (nI p))) 1 (nI p) = bt σ p := rfl
      have ea := h'.at c
      rw [show bt (lsi σ 1 (nI p)) p = bt σ p from rfl] at ea
      rw [if_neg (fun q => by have := c_le q; rw [nI_toInt (by omega), nI_toInt (by omega)] at this; omega), eb, ea, nI_1]
      have ih' := ih (p + 1) (by omega) (by omega)
      by_cases c1 : bt σ p = 10
      · rw [if_pos c1, if_neg (fun q => by have := b.1.mp q; rw [c1] at this; exact absurd this (by decide)), if_pos (b.2.1.mpr c1), lsi_lsi, si_si]
        obtain ⟨q, q1, q2, q3, q4, q5⟩ := ih'
        exact ⟨q, by omega, q2, q3, q4, q5⟩
      · by_cases c2 : bt σ p = 32
        · rw [if_neg c1, if_pos c2, if_pos (b.1.mpr c2), lsi_lsi, si_si]
          obtain ⟨q, q1, q2, q3, q4, q5⟩ := ih'
          exact ⟨q, by omega, q2, q3, q4, q5⟩
        · rw [if_neg c1, if_neg c2, if_neg (fun q => c2 (b.1.mp q)), if_neg (fun q => c1 (b.2.1.mp q))]
          exact ⟨p, Nat.le_refl _, h1, rfl, rfl, fun _ => ⟨c1, c2⟩⟩
    · have ep : p = S := by omega
      have ea := h'.over (k := p) (by omega) (by omega)
      rw [if_pos (by rw [ep]; exact Int32.le_refl _), ea, if_neg (by decide), if_neg (by decide)]
      exact ⟨p, Nat.le_refl _, h1, rfl, rfl, fun q => absurd q c⟩
def isLt (b : Int32) : Prop := 97 ≤ b.toInt ∧ b.toInt ≤ 122
def isDg (b : Int32) : Prop := 48 ≤ b.toInt ∧ b.toInt ≤ 57
theorem isLetter_e (h : TX S σ μ) {p : Nat} (hp : p ≤ S) : (f_X7_isLetter σ (nI p) = 0 ∨ f_X7_isLetter σ (nI p) = 1) ∧ (f_X7_isLetter σ (nI p) = 0 ↔ f_X6_isSmall (f_X6_byteAt μ (nI p)) = 0) ∧ (¬ f_X7_isLetter σ (nI p) = 0 → p < S ∧ isLt (bt σ p)) := by
  have hS := h.1
  unfold f_X7_isLetter
  rw [h.2.1]
  by_cases c : p < S
  · have b := isB_f (h.b c)
    rw [if_neg (fun q => by have := c_le q; rw [nI_toInt (by omega), nI_toInt (by omega)] at this; omega), h.at c]
    have eb : ga (own σ) 1 (nI p) = bt σ p := rfl
    rw [eb]
    by_cases c1 : bt σ p < 97
    · rw [if_pos c1]
      exact ⟨Or.inl rfl, ⟨fun _ => b.2.2.2.2.2.2.1.mpr (Or.inl c1), fun _ => rfl⟩, fun q => absurd rfl q⟩
    · by_cases c2 : 122 < bt σ p
      · rw [if_neg c1, if_pos c2]
        exact ⟨Or.inl rfl, ⟨fun _ => b.2.2.2.2.2.2.1.mpr (Or.inr c2), fun _ => rfl⟩, fun q => absurd rfl q⟩
      · rw [if_neg c1, if_neg c2]
        exact ⟨Or.inr rfl, ⟨fun q => absurd q (by decide), fun q => ((b.2.2.2.2.2.2.1.mp q).elim c1 c2).elim⟩, fun _ => ⟨c, c_nlt c1, c_nlt c2⟩⟩
  · rw [if_pos (Int32.le_iff_toInt_le.mpr (by rw [nI_toInt (by omega), nI_toInt (by omega)]; omega)), h.over (by omega) (by omega)]
    exact ⟨Or.inl rfl, ⟨fun _ => by decide, fun _ => rfl⟩, fun q => absurd rfl q⟩
theorem isDigit_e (h : TX S σ μ) {p : Nat} (hp : p ≤ S) : (f_X7_isDigit σ (nI p) = 0 ↔ f_X6_isDigit (f_X6_byteAt μ (nI p)) = 0) ∧ (¬ f_X7_isDigit σ (nI p) = 0 → p < S ∧ isDg (bt σ p)) := by
  have hS := h.1
  unfold f_X7_isDigit
  rw [h.2.1]
  by_cases c : p < S
  · have b := isB_f (h.b c)
    rw [if_neg (fun q => by have := c_le q; rw [nI_toInt (by omega), nI_toInt (by omega)] at this; omega), h.at c]
    have eb : ga (own σ) 1 (nI p) = bt σ p := rfl
    rw [eb]
    by_cases c1 : bt σ p < 48
    · rw [if_pos c1]
      exact ⟨⟨fun _ => b.2.2.2.2.2.2.2.1.mpr (Or.inl c1), fun _ => rfl⟩, fun q => absurd rfl q⟩
    · by_cases c2 : 57 < bt σ p
      · rw [if_neg c1, if_pos c2]
        exact ⟨⟨fun _ => b.2.2.2.2.2.2.2.1.mpr (Or.inr c2), fun _ => rfl⟩, fun q => absurd rfl q⟩
      · rw [if_neg c1, if_neg c2]
        exact ⟨⟨fun q => absurd q (by decide), fun q => ((b.2.2.2.2.2.2.2.1.mp q).elim c1 c2).elim⟩, fun _ => ⟨c, c_nlt c1, c_nlt c2⟩⟩
  · rw [if_pos (Int32.le_iff_toInt_le.mpr (by rw [nI_toInt (by omega), nI_toInt (by omega)]; omega)), h.over (by omega) (by omega)]
    exact ⟨⟨fun _ => by decide, fun _ => rfl⟩, fun q => absurd rfl q⟩
/-- letters are taken -/
theorem tk_lets (h : TX S σ μ) : ∀ (n p : Nat), p ≤ S → S < n + p → ∃ q : Nat, p ≤ q ∧ q ≤ S ∧ f_X7_next_L107 n (lsi σ 2 (nI p)) = lsi σ 2 (nI q) ∧ f_X6_ahead_L81 n (si μ 14 (nI p)) = si μ 14 (nI q) ∧ (∀ j, p ≤ j → j < q → isLt (bt σ j)) ∧ (f_X7_isLetter σ (nI p) = 0 ∨ p < q) := by
  have hS := h.1
  intro n
  induction n with
  | zero => intro p h1 h2; omega
  | succ n ih =>
    intro p h1 h2
    rw [f_X7_next_L107, f_X6_ahead_L81]
    dsimp only
    have h' : TX S (lsi σ 2 (nI p)) (si μ 14 (nI p)) := h.of rfl (fun _ => rfl) rfl (fun _ => rfl)
    have e2 : gi (own (lsi σ 2 (nI p))) 2 = nI p := rfl
    have e3 : gi (si μ 14 (nI p)) 14 = nI p := rfl
    rw [e2, e3]
    obtain ⟨-, l1, l2⟩ := isLetter_e h' h1
    have el : f_X7_isLetter (lsi σ 2 (nI p)) (nI p) = f_X7_isLetter σ (nI p) := rfl
    by_cases c : f_X7_isLetter (lsi σ 2 (nI p)) (nI p) = 0
    · rw [if_pos c, if_pos (l1.mp c)]
      exact ⟨p, Nat.le_refl _, h1, rfl, rfl, fun j a b => by omega, Or.inl (el ▸ c)⟩
    · rw [if_neg c, if_neg (fun q => c (l1.mpr q)), nI_1, lsi_lsi, si_si]
      have l3 := l2 c
      obtain ⟨q, q1, q2, q3, q4, q5, -⟩ := ih (p + 1) (by omega) (by omega)
      refine ⟨q, by omega, q2, q3, q4, fun j a b => ?_, Or.inr (by omega)⟩
      by_cases e : j = p
      · rw [e]; exact l3.2
      · exact q5 j (by omega) b
/-- digits are taken; the number of four of them at most -/
theorem tk_digs (h : TX S σ μ) (A : Nat) : ∀ (n p : Nat) (v w : Int32), A ≤ p → p ≤ S → S < n + p → (p ≤ A + 4 → v = w ∧ 0 ≤ v.toInt ∧ v.toInt < 10 ^ (p - A)) → 0 ≤ w.toInt ∧ w.toInt ≤ 100000 → gi (own σ) 1 = nI A →
    ∃ (q : Nat) (v' w' : Int32), p ≤ q ∧ q ≤ S ∧ f_X7_next_L147 n (lsi (lsi σ 4 v) 2 (nI p)) = lsi (lsi σ 4 v') 2 (nI q) ∧ f_X6_ahead_L128 n (si (si μ 15 w) 14 (nI p)) = si (si μ 15 w') 14 (nI q) ∧ (q ≤ A + 4 → v' = w' ∧ 0 ≤ v'.toInt ∧ v'.toInt ≤ 9999) ∧ (f_X7_isDigit σ (nI p) = 0 ∨ p < q) := by
  have hS := h.1
  intro n
  induction n with
  | zero => intro p v w h0 h1 h2; omega
  | succ n ih =>
    intro p v w h0 h1 h2 hv hw hA
    rw [f_X7_next_L147, f_X6_ahead_L128]
    dsimp only
    have h' : TX S (lsi (lsi σ 4 v) 2 (nI p)) (si (si μ 15 w) 14 (nI p)) := h.of rfl (fun _ => rfl) rfl (fun _ => rfl)
    have e1 : gi (own (lsi (lsi σ 4 v) 2 (nI p))) 1 = nI A := hA
    have e2 : gi (own (lsi (lsi σ 4 v) 2 (nI p))) 2 = nI p := rfl
    have e3 : gi (si (si μ 15 w) 14 (nI p)) 14 = nI p := rfl
    have e4 : gi (own (lsi (lsi σ 4 v) 2 (nI p))) 4 = v := rfl
    have e5 : gi (si (si μ 15 w) 14 (nI p)) 15 = w := rfl
    rw [e1, e2, e3, e4, e5]
    obtain ⟨l1, l2⟩ := isDigit_e h' h1
    by_cases c : f_X7_isDigit (lsi (lsi σ 4 v) 2 (nI p)) (nI p) = 0
    · rw [if_pos c, if_pos (l1.mp c)]
      refine ⟨p, v, w, Nat.le_refl _, h1, rfl, rfl, fun hq => ?_, Or.inl c⟩
      obtain ⟨a, b, d⟩ := hv hq
      have : 10 ^ (p - A) ≤ (10 : Nat) ^ 4 := Nat.pow_le_pow_right (by omega) (by omega)
      have t : ((10 : Nat) ^ (p - A) : Int) ≤ 10000 := by exact_mod_cast this
      refine ⟨a, b, ?_⟩
      have d' : v.toInt < ((10 : Nat) ^ (p - A) : Int) := by exact_mod_cast d
      omega
    · rw [if_neg c, if_neg (fun q => c (l1.mpr q))]
      obtain ⟨l3, l4⟩ := l2 c
      have bb := isB_f (h'.b l3)
      have ed : bt (lsi (lsi σ 4 v) 2 (nI p)) p = bt σ p := rfl
      rw [h'.at l3, ed] at *
      have b0 : bt σ p &&& 255 = bt σ p := bb.2.2.2.2.2.2.2.2.2 (Int32.le_iff_toInt_le.mpr (by rw [z_0]; unfold isDg at l4; omega))
      rw [b0]
      have l4 : 48 ≤ (bt σ p).toInt ∧ (bt σ p).toInt ≤ 57 := l4
      have m1 : (10 * w : Int32).toInt = 10 * w.toInt := i_mul (show (10 : Int32).toInt = 10 from rfl) rfl (by omega)
      have m2 : (10 * w + bt σ p : Int32).toInt = 10 * w.toInt + (bt σ p).toInt := i_add m1 rfl (by omega)
      have m3 : (10 * w + bt σ p - 48 : Int32).toInt = 10 * w.toInt + (bt σ p).toInt - 48 := i_sub m2 (show (48 : Int32).toInt = 48 from rfl) (by omega)
      have jm := jmin_i (x := (100000 : Int32)) (y := 10 * w + bt σ p - 48)
      rw [m3, show (100000 : Int32).toInt = 100000 from rfl] at jm
      have hw' : 0 ≤ (jmin (100000 : Int32) (10 * w + bt σ p - 48)).toInt ∧ (jmin (100000 : Int32) (10 * w + bt σ p - 48)).toInt ≤ 100000 := by omega
      have s1 : ∀ x : Int32, lsi (lsi (lsi σ 4 v) 2 (nI p)) 4 x = lsi (lsi σ 4 x) 2 (nI p) := fun x => by
        refine Prod.ext (Prod.ext ?_ rfl) rfl
        funext k
        show upd (upd (upd σ.1.1 4 v) 2 (nI p)) 4 x k = upd (upd σ.1.1 4 x) 2 (nI p) k
        simp only [upd]
        split
        · rename_i q; rw [q]; rfl
        · split
          · rfl
          · rfl
      have s2 : ∀ x : Int32, si (si (si (si μ 15 w) 14 (nI p)) 15 x) 14 (nI (p + 1)) = si (si μ 15 x) 14 (nI (p + 1)) := fun x => by
        refine Prod.ext ?_ rfl
        funext k
        show upd (upd (upd (upd μ.1 15 w) 14 (nI p)) 15 x) 14 (nI (p + 1)) k = upd (upd μ.1 15 x) 14 (nI (p + 1)) k
        simp only [upd]
        split
        · rfl
        · rename_i q
          split
          · rfl
          · rfl
      have e6 : gi (si (si (si μ 15 w) 14 (nI p)) 15 (jmin (100000 : Int32) (10 * w + bt σ p - 48))) 14 = nI p := rfl
      rw [e6, nI_1, s2]
      have pA : (nI p - nI A : Int32).toInt = (p : Int) - A := i_sub (nI_toInt (by omega)) (nI_toInt (by omega)) (by omega)
      by_cases c4 : (4 : Int32) ≤ nI p - nI A
      · have c4' := c_le c4
        rw [pA, show (4 : Int32).toInt = 4 from rfl] at c4'
        rw [if_pos c4, lsi_lsi]
        obtain ⟨q, v', w', q1, q2, q3, q4, q5, -⟩ := ih (p + 1) v _ (by omega) (by omega) (by omega) (fun z => by omega) hw' hA
        exact ⟨q, v', w', by omega, q2, q3, q4, q5, Or.inr (by omega)⟩
      · have c4' := c_nle c4
        rw [pA, show (4 : Int32).toInt = 4 from rfl] at c4'
        obtain ⟨a1, a2, a3⟩ := hv (by omega)
        have k4 : 10 ^ (p - A) ≤ (10 : Nat) ^ 3 := Nat.pow_le_pow_right (by omega) (by omega)
        have t4 : ((10 : Nat) ^ (p - A) : Int) ≤ 1000 := by exact_mod_cast k4
        have a3' : v.toInt < ((10 : Nat) ^ (p - A) : Int) := by exact_mod_cast a3
        subst a1
        have ej : jmin (100000 : Int32) (10 * v + bt σ p - 48) = 10 * v + bt σ p - 48 := Int32.toInt_inj.mp (by rw [m3]; omega)
        rw [if_neg c4]
        have e7 : ga (own (lsi (lsi σ 4 v) 2 (nI p))) 1 (nI p) = bt σ p := rfl
        rw [e7, s1, ej]
        have e8 : gi (own (lsi (lsi σ 4 (10 * v + bt σ p - 48)) 2 (nI p))) 2 = nI p := rfl
        rw [e8, nI_1, lsi_lsi]
        rw [ej] at hw'
        obtain ⟨q, v', w', q1, q2, q3, q4, q5, -⟩ := ih (p + 1) _ _ (by omega) (by omega) (by omega) (fun z => ⟨rfl, hw'.1, by
          rw [m3, show p + 1 - A = (p - A) + 1 by omega, Int.pow_succ]
          omega⟩) hw' hA
        exact ⟨q, v', w', by omega, q2, q3, q4, q5, Or.inr (by omega)⟩
end TOK
/-! TEXTS: the next token, both sides -/
set_option maxRecDepth 100000
theorem si_self {μ : MS} {k : Nat} {v : Int32} (h : gi μ k = v) : si μ k v = μ := by
  refine Prod.ext ?_ rfl
  funext j
  show upd μ.1 k v j = μ.1 j
  simp only [upd]
  split
  · rename_i q; rw [q, ← h]; rfl
  · rfl
theorem lsi_self {σ : MS × MS} {k : Nat} {v : Int32} (h : gi (own σ) k = v) : lsi σ k v = σ := Prod.ext (si_self h) rfl
def tkS (s t : Int32) : Prop := (s = 0 ∧ t = 0) ∨ (s = 1 ∧ t = 2) ∨ (s = 2 ∧ t = 3) ∨ (s = 3 ∧ t = 4) ∨ (s = 4 ∧ t = 1)
/-- both stand at the same token, from A to B -/
def TK (S A B : Nat) (σ : MS × MS) (μ : MS) : Prop :=
  TX S σ μ ∧ (gi (own σ) 1 = nI A ∧ gi μ 13 = nI A) ∧ (gi (own σ) 2 = nI B ∧ gi μ 14 = nI B) ∧ (A ≤ B ∧ B ≤ S) ∧ tkS (gi (own σ) 3) (gi μ 12) ∧
  (gi (own σ) 3 = 2 → gi (own σ) 4 = gi μ 15 ∧ 0 ≤ (gi μ 15).toInt ∧ (gi μ 15).toInt ≤ 9999) ∧ (gi (own σ) 3 = 3 → gi μ 15 = bt σ A) ∧ (gi (own σ) 3 = 1 → ∀ j, A ≤ j → j < B → isLt (bt σ j)) ∧ (gi (own σ) 3 = 0 ↔ A = S) ∧ (¬ gi (own σ) 3 = 0 → A < B)
/-- what reading on leaves -/
def NXF (σ σ' : MS × MS) : Prop := ttb σ' = ttb σ ∧ (∀ k, k ∉ [1, 2, 3, 4] → gi (own σ') k = gi (own σ) k) ∧ (own σ').2 = (own σ).2
def AHF (μ μ' : MS) : Prop := μ'.2 = μ.2 ∧ ∀ k, k ∉ [12, 13, 14, 15] → gi μ' k = gi μ k
theorem NXF.rf {σ : MS × MS} : NXF σ σ := ⟨rfl, fun _ _ => rfl, rfl⟩
theorem NXF.tr {σ σ' σ'' : MS × MS} (h : NXF σ σ') (h2 : NXF σ' σ'') : NXF σ σ'' := ⟨h2.1.trans h.1, fun k hk => (h2.2.1 k hk).trans (h.2.1 k hk), h2.2.2.trans h.2.2⟩
theorem AHF.rf {μ : MS} : AHF μ μ := ⟨rfl, fun _ _ => rfl⟩
theorem AHF.tr {μ μ' μ'' : MS} (h : AHF μ μ') (h2 : AHF μ' μ'') : AHF μ μ'' := ⟨h2.1.trans h.1, fun k hk => (h2.2 k hk).trans (h.2 k hk)⟩
theorem NXF_lsi {σ σ' : MS × MS} (h : NXF σ σ') {k : Nat} {v : Int32} (hk : k ∈ [1, 2, 3, 4]) : NXF σ (lsi σ' k v) := ⟨h.1, fun j hj => by
  have hne : j ≠ k := fun e => hj (e ▸ hk)
  refine Eq.trans ?_ (h.2.1 j hj)
  show upd (own σ').1 k v j = (own σ').1 j
  simp [upd, hne], h.2.2⟩
theorem AHF_si {μ μ' : MS} (h : AHF μ μ') {k : Nat} {v : Int32} (hk : k ∈ [12, 13, 14, 15]) : AHF μ (si μ' k v) := ⟨h.1, fun j hj => by
  have hne : j ≠ k := fun e => hj (e ▸ hk)
  refine Eq.trans ?_ (h.2 j hj)
  show upd μ'.1 k v j = μ'.1 j
  simp [upd, hne]⟩
theorem TX.nx {S : Nat} {σ σ' : MS × MS} {μ μ' : MS} (h : TX S σ μ) (h1 : NXF σ σ') (h2 : AHF μ μ') : TX S σ' μ' :=
  h.of (h1.2.1 0 (by decide)) (fun j => by unfold ga; rw [h1.2.2]) (h2.2 11 (by decide)) (fun j => by unfold ga; rw [h2.1])
theorem bt_nx {σ σ' : MS × MS} (h : NXF σ σ') (k : Nat) : bt σ' k = bt σ k := by unfold bt ga; rw [h.2.2]
theorem tk_next {S B : Nat} {σ : MS × MS} {μ : MS} (h : TX S σ μ) (hB1 : gi (own σ) 2 = nI B) (hB2 : gi μ 14 = nI B) (hB : B ≤ S) : ∃ A' B' : Nat, B ≤ A' ∧ TK S A' B' (f_X7_next σ) (f_X6_ahead μ) ∧ NXF σ (f_X7_next σ) ∧ AHF μ (f_X6_ahead μ) := by
  have hS := h.1
  obtain ⟨q, q1, q2, q3, q4, q5⟩ := tk_skip h 901 B hB (by omega)
  rw [si_self hB2] at q4
  have F1 : NXF σ (lsi (lsi (lsi σ 1 (nI q)) 2 (nI q)) 3 0) := NXF_lsi (NXF_lsi (NXF_lsi NXF.rf (by decide)) (by decide)) (by decide)
  have G1 : AHF μ (si (si μ 14 (nI q)) 13 (nI q)) := AHF_si (AHF_si AHF.rf (by decide)) (by decide)
  have T1 := h.nx F1 G1
  refine ⟨q, ?_⟩
  unfold f_X7_next f_X6_ahead
  dsimp only
  rw [hB1, q3, q4]
  have e1 : gi (own (lsi σ 1 (nI q))) 1 = nI q := rfl
  have e2 : gi (si μ 14 (nI q)) 14 = nI q := rfl
  rw [e1, e2]
  have e3 : gi (own (lsi (lsi (lsi σ 1 (nI q)) 2 (nI q)) 3 0)) 1 = nI q := rfl
  have e4 : gi (own (lsi (lsi (lsi σ 1 (nI q)) 2 (nI q)) 3 0)) 0 = nI S := h.2.1
  have e5 : gi (si (si μ 14 (nI q)) 13 (nI q)) 14 = nI q := rfl
  rw [e3, e4, e5]
  generalize hσ : lsi (lsi (lsi σ 1 (nI q)) 2 (nI q)) 3 0 = σ1 at F1 T1 ⊢
  have o1 : gi (own σ1) 1 = nI q := by rw [← hσ]; rfl
  have o2 : gi (own σ1) 2 = nI q := by rw [← hσ]; rfl
  have o3 : gi (own σ1) 3 = 0 := by rw [← hσ]; rfl
  generalize hμ : si (si μ 14 (nI q)) 13 (nI q) = μ1 at G1 T1 ⊢
  have m13 : gi μ1 13 = nI q := by rw [← hμ]; rfl
  have m14 : gi μ1 14 = nI q := by rw [← hμ]; rfl
  have hbt : ∀ k, bt σ1 k = bt σ k := bt_nx F1
  by_cases c : q < S
  · rw [if_pos (Int32.lt_iff_toInt_lt.mpr (by rw [nI_toInt (by omega), nI_toInt (by omega)]; omega)), T1.at c]
    have b := isB_f (T1.b c)
    rw [if_neg b.2.2.2.2.2.2.2.2.1]
    have T2 : TX S σ1 (si μ1 15 (bt σ1 q &&& 255)) := T1.nx NXF.rf (AHF_si AHF.rf (by decide))
    obtain ⟨-, l1, l2⟩ := isLetter_e T1 q2
    obtain ⟨d1, d2⟩ := isDigit_e T1 q2
    rw [T1.at c] at l1 d1
    by_cases cl : f_X7_isLetter σ1 (nI q) = 0
    · rw [if_pos cl, if_pos (l1.mp cl)]
      by_cases cd : f_X7_isDigit σ1 (nI q) = 0
      · rw [if_pos cd, if_pos (d1.mp cd)]
        rw [show gi (si μ1 15 (bt σ1 q &&& 255)) 14 = nI q from m14, nI_1]
        have F2 : NXF σ (lsi σ1 2 (nI (q + 1))) := NXF_lsi F1 (by decide)
        have e6 : gi (own (lsi σ1 2 (nI (q + 1)))) 1 = nI q := o1
        rw [e6]
        have e7 : ga (own (lsi σ1 2 (nI (q + 1)))) 1 (nI q) = bt σ1 q := rfl
        rw [e7]
        have fin : ∀ (s t : Int32), ((s = 3 ∧ t = 4 ∧ (bt σ1 q &&& 255 = bt σ1 q)) ∨ (s = 4 ∧ t = 1)) → q ≤ q → TK S q (q + 1) (lsi (lsi σ1 2 (nI (q + 1))) 3 s) (si (si (si μ1 15 (bt σ1 q &&& 255)) 14 (nI (q + 1))) 12 t) ∧ NXF σ (lsi (lsi σ1 2 (nI (q + 1))) 3 s) ∧ AHF μ (si (si (si μ1 15 (bt σ1 q &&& 255)) 14 (nI (q + 1))) 12 t) := by
          intro s t hst _
          have F3 : NXF σ (lsi (lsi σ1 2 (nI (q + 1))) 3 s) := NXF_lsi F2 (by decide)
          have G3 : AHF μ (si (si (si μ1 15 (bt σ1 q &&& 255)) 14 (nI (q + 1))) 12 t) := AHF_si (AHF_si (AHF_si G1 (by decide)) (by decide)) (by decide)
          refine ⟨⟨h.nx F3 G3, ⟨o1, m13⟩, ⟨rfl, rfl⟩, ⟨by omega, by omega⟩, ?_, fun z => ?_, fun z => ?_, fun z => ?_, ⟨fun z => ?_, fun z => by omega⟩, fun _ => by omega⟩, F3, G3⟩
          · show tkS s t
            rcases hst with ⟨a, b, -⟩ | ⟨a, b⟩ <;> rw [a, b]
            · exact Or.inr (Or.inr (Or.inr (Or.inl ⟨rfl, rfl⟩)))
            · exact Or.inr (Or.inr (Or.inr (Or.inr ⟨rfl, rfl⟩)))
          · have z' : s = 2 := z
            rcases hst with ⟨a, -⟩ | ⟨a, -⟩ <;> rw [a] at z' <;> exact absurd z' (by decide)
          · have z' : s = 3 := z
            rcases hst with ⟨a, -, e⟩ | ⟨a, -⟩
            · exact e
            · rw [a] at z'; exact absurd z' (by decide)
          · have z' : s = 1 := z
            rcases hst with ⟨a, -⟩ | ⟨a, -⟩ <;> rw [a] at z' <;> exact absurd z' (by decide)
          · have z' : s = 0 := z
            rcases hst with ⟨a, -⟩ | ⟨a, -⟩ <;> rw [a] at z' <;> exact absurd z' (by decide)
        have ps : ∀ v : Int32, bt σ1 q = v → 0 ≤ v → bt σ1 q &&& 255 = bt σ1 q := fun v hv h0 => b.2.2.2.2.2.2.2.2.2 (by rw [hv]; exact h0)
        by_cases s1 : bt σ1 q = 59
        · rw [if_pos s1, if_pos (b.2.2.1.mpr s1)]
          exact ⟨q + 1, q1, fin 3 4 (Or.inl ⟨rfl, rfl, ps 59 s1 (by decide)⟩) (Nat.le_refl _)⟩
        · rw [if_neg s1, if_neg (fun z => s1 (b.2.2.1.mp z))]
          by_cases s2 : bt σ1 q = 60
          · rw [if_pos s2, if_pos (b.2.2.2.1.mpr s2)]
            exact ⟨q + 1, q1, fin 3 4 (Or.inl ⟨rfl, rfl, ps 60 s2 (by decide)⟩) (Nat.le_refl _)⟩
          · rw [if_neg s2, if_neg (fun z => s2 (b.2.2.2.1.mp z))]
            by_cases s3 : bt σ1 q = 62
            · rw [if_pos s3, if_pos (b.2.2.2.2.1.mpr s3)]
              exact ⟨q + 1, q1, fin 3 4 (Or.inl ⟨rfl, rfl, ps 62 s3 (by decide)⟩) (Nat.le_refl _)⟩
            · rw [if_neg s3, if_neg (fun z => s3 (b.2.2.2.2.1.mp z))]
              by_cases s4 : bt σ1 q = 61
              · rw [if_pos s4, if_pos (b.2.2.2.2.2.1.mpr s4)]
                exact ⟨q + 1, q1, fin 3 4 (Or.inl ⟨rfl, rfl, ps 61 s4 (by decide)⟩) (Nat.le_refl _)⟩
              · rw [if_neg s4, if_neg (fun z => s4 (b.2.2.2.2.2.1.mp z))]
                exact ⟨q + 1, q1, fin 4 1 (Or.inr ⟨rfl, rfl⟩) (Nat.le_refl _)⟩
      · rw [if_neg cd, if_neg (fun z => cd (d1.mpr z))]
        have F2 : NXF σ (lsi σ1 4 0) := NXF_lsi F1 (by decide)
        have G2 : AHF μ (si (si μ1 15 (bt σ1 q &&& 255)) 15 0) := AHF_si (AHF_si G1 (by decide)) (by decide)
        have T3 := h.nx F2 G2
        obtain ⟨B', v', w', t1, t2, t3, t4, t5, t6⟩ := tk_digs T3 q 901 q 0 0 (Nat.le_refl _) q2 (by omega) (fun _ => ⟨rfl, by decide, by rw [Nat.sub_self, z_0]; decide⟩) (by decide) o1
        rw [lsi_self (σ := lsi σ1 4 0) (k := 4) (v := 0) rfl, lsi_self (σ := lsi σ1 4 0) (k := 2) (v := nI q) o2] at t3
        rw [si_self (μ := si (si μ1 15 (bt σ1 q &&& 255)) 15 0) (k := 15) (v := 0) rfl, si_self (μ := si (si μ1 15 (bt σ1 q &&& 255)) 15 0) (k := 14) (v := nI q) m14] at t4
        rw [t3, t4]
        have hq1 : q < B' := t6.resolve_left cd
        have e6 : gi (own (lsi (lsi (lsi σ1 4 0) 4 v') 2 (nI B'))) 2 = nI B' := rfl
        have e7 : gi (own (lsi (lsi (lsi σ1 4 0) 4 v') 2 (nI B'))) 1 = nI q := o1
        have e8 : gi (si (si (si (si μ1 15 (bt σ1 q &&& 255)) 15 0) 15 w') 14 (nI B')) 14 = nI B' := rfl
        have e9 : gi (si (si (si (si μ1 15 (bt σ1 q &&& 255)) 15 0) 15 w') 14 (nI B')) 13 = nI q := m13
        rw [e6, e7, e8, e9]
        have pA : (nI B' - nI q : Int32).toInt = (B' : Int) - q := i_sub (nI_toInt (by omega)) (nI_toInt (by omega)) (by omega)
        have fin : ∀ (s t : Int32), ((s = 2 ∧ t = 3 ∧ B' ≤ q + 4) ∨ (s = 4 ∧ t = 1)) → TK S q B' (lsi (lsi (lsi (lsi σ1 4 0) 4 v') 2 (nI B')) 3 s) (si (si (si (si (si μ1 15 (bt σ1 q &&& 255)) 15 0) 15 w') 14 (nI B')) 12 t) ∧ NXF σ (lsi (lsi (lsi (lsi σ1 4 0) 4 v') 2 (nI B')) 3 s) ∧ AHF μ (si (si (si (si (si μ1 15 (bt σ1 q &&& 255)) 15 0) 15 w') 14 (nI B')) 12 t) := by
          intro s t hst
          have F3 : NXF σ (lsi (lsi (lsi (lsi σ1 4 0) 4 v') 2 (nI B')) 3 s) := NXF_lsi (NXF_lsi (NXF_lsi F2 (by decide)) (by decide)) (by decide)
          have G3 : AHF μ (si (si (si (si (si μ1 15 (bt σ1 q &&& 255)) 15 0) 15 w') 14 (nI B')) 12 t) := AHF_si (AHF_si (AHF_si G2 (by decide)) (by decide)) (by decide)
          refine ⟨⟨h.nx F3 G3, ⟨o1, m13⟩, ⟨rfl, rfl⟩, ⟨t1, t2⟩, ?_, fun z => ?_, fun z => ?_, fun z => ?_, ⟨fun z => ?_, fun z => by omega⟩, fun _ => hq1⟩, F3, G3⟩
          · show tkS s t
            rcases hst with ⟨a, b, -⟩ | ⟨a, b⟩ <;> rw [a, b]
            · exact Or.inr (Or.inr (Or.inl ⟨rfl, rfl⟩))
            · exact Or.inr (Or.inr (Or.inr (Or.inr ⟨rfl, rfl⟩)))
          · have z' : s = 2 := z
            rcases hst with ⟨a, -, e⟩ | ⟨a, -⟩
            · have := t5 e
              exact ⟨this.1, by rw [← this.1]; exact this.2⟩
            · rw [a] at z'; exact absurd z' (by decide)
          · have z' : s = 3 := z
            rcases hst with ⟨a, -⟩ | ⟨a, -⟩ <;> rw [a] at z' <;> exact absurd z' (by decide)
          · have z' : s = 1 := z
            rcases hst with ⟨a, -⟩ | ⟨a, -⟩ <;> rw [a] at z' <;> exact absurd z' (by decide)
          · have z' : s = 0 := z
            rcases hst with ⟨a, -⟩ | ⟨a, -⟩ <;> rw [a] at z' <;> exact absurd z' (by decide)
        by_cases c4 : nI B' - nI q ≤ (4 : Int32)
        · have c4' := c_le c4
          rw [pA, show (4 : Int32).toInt = 4 from rfl] at c4'
          rw [if_pos c4, if_pos c4]
          exact ⟨B', q1, fin 2 3 (Or.inl ⟨rfl, rfl, by omega⟩)⟩
        · rw [if_neg c4, if_neg c4]
          exact ⟨B', q1, fin 4 1 (Or.inr ⟨rfl, rfl⟩)⟩
    · rw [if_neg cl, if_neg (fun z => cl (l1.mpr z))]
      have F2 : NXF σ (lsi σ1 3 1) := NXF_lsi F1 (by decide)
      have G2 : AHF μ (si μ1 15 (bt σ1 q &&& 255)) := AHF_si G1 (by decide)
      have T3 := h.nx F2 G2
      obtain ⟨B', t1, t2, t3, t4, t5, t6⟩ := tk_lets T3 901 q q2 (by omega)
      rw [lsi_self (σ := lsi σ1 3 1) (k := 2) (v := nI q) o2] at t3
      rw [si_self (μ := si μ1 15 (bt σ1 q &&& 255)) (k := 14) (v := nI q) m14] at t4
      rw [t3, t4]
      have hq1 : q < B' := t6.resolve_left cl
      have F3 : NXF σ (lsi (lsi σ1 3 1) 2 (nI B')) := NXF_lsi F2 (by decide)
      have G3 : AHF μ (si (si (si μ1 15 (bt σ1 q &&& 255)) 14 (nI B')) 12 2) := AHF_si (AHF_si G2 (by decide)) (by decide)
      refine ⟨B', q1, ⟨h.nx F3 G3, ⟨o1, m13⟩, ⟨rfl, rfl⟩, ⟨t1, t2⟩, Or.inr (Or.inl ⟨rfl, rfl⟩), fun z => absurd (show (1 : Int32) = 2 from z) (by decide), fun z => absurd (show (1 : Int32) = 3 from z) (by decide), fun _ => t5, ⟨fun z => absurd (show (1 : Int32) = 0 from z) (by decide), fun z => by omega⟩, fun _ => hq1⟩, F3, G3⟩
  · have eq : q = S := by omega
    rw [if_neg (fun z => by have := c_lt z; rw [nI_toInt (by omega), nI_toInt (by omega)] at this; omega), T1.over (by omega) (by omega), if_pos rfl]
    have G3 : AHF μ (si (si μ1 15 (-1)) 12 0) := AHF_si (AHF_si G1 (by decide)) (by decide)
    refine ⟨q, q1, ⟨h.nx F1 G3, ⟨o1, m13⟩, ⟨o2, m14⟩, ⟨Nat.le_refl _, q2⟩, ?_, fun z => ?_, fun z => ?_, fun z => ?_, ⟨fun _ => eq, fun _ => o3⟩, fun z => absurd o3 z⟩, F1, G3⟩
    · rw [o3]; exact Or.inl ⟨rfl, rfl⟩
    · rw [o3] at z; exact absurd z (by decide)
    · rw [o3] at z; exact absurd z (by decide)
    · rw [o3] at z; exact absurd z (by decide)
