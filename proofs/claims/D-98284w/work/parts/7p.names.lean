/-! TEXTS: names, both sides (wb_ and g_or: out of the kit's starting text BITS) -/
set_option maxRecDepth 100000
theorem wb_tb (n : Nat) : (lN n).toBitVec = BitVec.ofNat 64 n := rfl
theorem wb_inj {a b : Int64} (h : a.toBitVec = b.toBitVec) : a = b := Int64.toBitVec_inj.mp h
theorem wb_tn {n : Nat} (h : n < 2 ^ 64) : (lN n).toBitVec.toNat = n := by rw [wb_tb, BitVec.toNat_ofNat, Nat.mod_eq_of_lt h]
theorem wb_c : ∀ k, k < 64 → ((nI k).toInt64 &&& 63) = lN k := by decide +kernel
theorem wb_sm : ∀ k, k < 64 → (BitVec.ofNat 64 k).smod 64 = BitVec.ofNat 64 k := by decide +kernel
theorem wb_shl (n : Nat) {k : Nat} (hk : k < 64) : lN n <<< ((nI k).toInt64 &&& 63) = lN (n * 2 ^ k) := by
  rw [wb_c k hk]
  apply wb_inj
  rw [Int64.toBitVec_shiftLeft, wb_tb, wb_tb, wb_tb, wb_sm k hk]
  apply BitVec.eq_of_toNat_eq
  rw [BitVec.shiftLeft_eq', BitVec.toNat_shiftLeft, BitVec.toNat_ofNat, BitVec.toNat_ofNat, BitVec.toNat_ofNat, Nat.mod_eq_of_lt (show k < 2 ^ 64 by omega), Nat.shiftLeft_eq, Nat.mul_mod, Nat.mod_mod, ← Nat.mul_mod]
theorem u_tn {n : Nat} (h : n < 2 ^ 64) : (UInt64.ofNat n).toNat = n := Nat.mod_eq_of_lt h
theorem g_or {k p a b : Nat} (hp : 2 ^ k = p) (ha : a < p) (h : b * p + a < 2 ^ 64) : lN (b * p) ||| lN a = lN (b * p + a) := by
  subst hp
  have h1 : b * 2 ^ k ||| a = b * 2 ^ k + a := by rw [← Nat.shiftLeft_eq, Nat.shiftLeft_add_eq_or_of_lt ha]
  have h3 : UInt64.ofNat (b * 2 ^ k) ||| UInt64.ofNat a = UInt64.ofNat (b * 2 ^ k + a) := UInt64.toNat_inj.mp (by rw [UInt64.toNat_or, u_tn (by omega), u_tn (by omega), u_tn h, h1])
  have h2 := congrArg UInt64.toInt64 h3
  exact h2
theorem cmp_0 {a b : Int64} : lg_cmp a b = 0 ↔ a = b := by
  constructor
  · intro h
    unfold lg_cmp at h
    split at h
    · exact absurd h (by decide)
    · split at h
      · assumption
      · exact absurd h (by decide)
  · intro h
    subst h
    unfold lg_cmp
    rw [if_neg (by first | exact Int.lt_irrefl _ | exact fun z => absurd (Int64.lt_iff_toInt_lt.mp z) (Int.lt_irrefl _)), if_pos rfl]
theorem lN_inj {a b : Nat} (ha : a < 2 ^ 64) (hb : b < 2 ^ 64) (h : lN a = lN b) : a = b := by
  have := congrArg (fun x : Int64 => x.toBitVec.toNat) h
  simp only [wb_tn ha, wb_tn hb] at this
  exact this
/-- digits, the last first -/
def rv (B : Nat) : List Nat → Nat
  | [] => 0
  | d :: t => rv B t * B + d
theorem rv_inj {B : Nat} : ∀ (l l' : List Nat), (∀ d ∈ l, 1 ≤ d ∧ d < B) → (∀ d ∈ l', 1 ≤ d ∧ d < B) → rv B l = rv B l' → l = l'
  | [], [], _, _, _ => rfl
  | [], d :: t, _, h2, h => by
    have := (h2 d List.mem_cons_self).1
    rw [rv, rv] at h
    omega
  | d :: t, [], h1, _, h => by
    have := (h1 d List.mem_cons_self).1
    rw [rv, rv] at h
    omega
  | d :: t, d' :: t', h1, h2, h => by
    have a := h1 d List.mem_cons_self
    have b := h2 d' List.mem_cons_self
    rw [rv, rv] at h
    have e1 : (rv B t * B + d) % B = d := by rw [Nat.add_comm, Nat.add_mul_mod_self_right, Nat.mod_eq_of_lt a.2]
    have e2 : (rv B t' * B + d') % B = d' := by rw [Nat.add_comm, Nat.add_mul_mod_self_right, Nat.mod_eq_of_lt b.2]
    have e : d = d' := by rw [← e1, ← e2, h]
    subst e
    have e3 : rv B t = rv B t' := Nat.eq_of_mul_eq_mul_right (by omega : 0 < B) (by omega)
    rw [rv_inj t t' (fun x hx => h1 x (List.mem_cons_of_mem _ hx)) (fun x hx => h2 x (List.mem_cons_of_mem _ hx)) e3]
theorem rv_lt {B : Nat} : ∀ (l : List Nat), (∀ d ∈ l, d < B) → rv B l < B ^ l.length
  | [], _ => by rw [rv]; exact Nat.one_pos
  | d :: t, h => by
    have ih := rv_lt t (fun x hx => h x (List.mem_cons_of_mem _ hx))
    have hd := h d List.mem_cons_self
    rw [rv, List.length_cons, Nat.pow_succ]
    have : (rv B t + 1) * B ≤ B ^ t.length * B := Nat.mul_le_mul_right _ ih
    rw [Nat.add_mul, Nat.one_mul] at this
    omega
def OKN (l : List Nat) : Prop := l.length ≤ 8 ∧ ∀ d ∈ l, 97 ≤ d ∧ d ≤ 122
def n32 (l : List Nat) : Int64 := lN (rv 32 (l.map (fun d => d - 96)))
def n256 (l : List Nat) : Int64 := lN (rv 256 l)
/-- a name, as the one keeps it and as the other -/
def NMr (a b : Int64) : Prop := ∃ l, OKN l ∧ a = n32 l ∧ b = n256 l
theorem pw_le {B k n : Nat} (hB : 1 ≤ B) (h : k ≤ n) : B ^ k ≤ B ^ n := Nat.pow_le_pow_right hB h
theorem n32_inj {l l' : List Nat} (h : OKN l) (h' : OKN l') (e : n32 l = n32 l') : l = l' := by
  have b : ∀ l : List Nat, OKN l → (∀ d ∈ l.map (fun d => d - 96), 1 ≤ d ∧ d < 32) ∧ rv 32 (l.map (fun d => d - 96)) < 2 ^ 64 := by
    intro l h
    have q : ∀ d ∈ l.map (fun d => d - 96), 1 ≤ d ∧ d < 32 := fun d hd => by
      obtain ⟨x, hx, rfl⟩ := List.mem_map.mp hd
      have := h.2 x hx
      omega
    refine ⟨q, Nat.lt_of_lt_of_le (rv_lt _ (fun d hd => (q d hd).2)) ?_⟩
    rw [List.length_map]
    exact Nat.le_trans (pw_le (by omega) h.1) (by decide)
  have r := rv_inj _ _ (b l h).1 (b l' h').1 (lN_inj (b l h).2 (b l' h').2 e)
  have inj : ∀ (x y : List Nat), (∀ d ∈ x, 97 ≤ d) → (∀ d ∈ y, 97 ≤ d) → x.map (fun d => d - 96) = y.map (fun d => d - 96) → x = y := by
    intro x
    induction x with
    | nil => intro y _ _ e; cases y with
      | nil => rfl
      | cons d t => simp at e
    | cons d t ih => intro y h1 h2 e; cases y with
      | nil => simp at e
      | cons d' t' =>
        simp only [List.map_cons, List.cons.injEq] at e
        have a := h1 d List.mem_cons_self
        have b := h2 d' List.mem_cons_self
        rw [ih t' (fun x hx => h1 x (List.mem_cons_of_mem _ hx)) (fun x hx => h2 x (List.mem_cons_of_mem _ hx)) e.2, show d = d' by omega]
  exact inj l l' (fun d hd => (h.2 d hd).1) (fun d hd => (h'.2 d hd).1) r
theorem n256_b {l : List Nat} (h : OKN l) : (∀ d ∈ l, 1 ≤ d ∧ d < 256) ∧ rv 256 l < 2 ^ 64 := by
  have q : ∀ d ∈ l, 1 ≤ d ∧ d < 256 := fun d hd => by have := h.2 d hd; omega
  exact ⟨q, Nat.lt_of_lt_of_le (rv_lt _ (fun d hd => (q d hd).2)) (Nat.le_trans (pw_le (by omega) h.1) (by decide))⟩
theorem n256_inj {l l' : List Nat} (h : OKN l) (h' : OKN l') (e : n256 l = n256 l') : l = l' :=
  rv_inj _ _ (n256_b h).1 (n256_b h').1 (lN_inj (n256_b h).2 (n256_b h').2 e)
theorem NMr.iff {a b a' b' : Int64} (h : NMr a b) (h' : NMr a' b') : a = a' ↔ b = b' := by
  obtain ⟨l, hl, rfl, rfl⟩ := h
  obtain ⟨l', hl', rfl, rfl⟩ := h'
  exact ⟨fun e => by rw [n32_inj hl hl' e], fun e => by rw [n256_inj hl hl' e]⟩
/-- the token's letters, the last first -/
def nmL (σ : MS × MS) (A : Nat) : Nat → List Nat
  | 0 => []
  | k + 1 => (bt σ (A + k)).toInt.toNat :: nmL σ A k
theorem nmL_ok {σ : MS × MS} {A : Nat} : ∀ (k : Nat), k ≤ 8 → (∀ j, A ≤ j → j < A + k → isLt (bt σ j)) → OKN (nmL σ A k) ∧ (nmL σ A k).length = k
  | 0, _, _ => ⟨⟨Nat.zero_le _, fun d hd => by cases hd⟩, rfl⟩
  | k + 1, h, hl => by
    obtain ⟨⟨a, b⟩, c⟩ := nmL_ok k (by omega) (fun j h1 h2 => hl j h1 (by omega))
    have q := hl (A + k) (by omega) (by omega)
    unfold isLt at q
    refine ⟨⟨by rw [nmL, List.length_cons]; omega, fun d hd => ?_⟩, by rw [nmL, List.length_cons, c]⟩
    rw [nmL] at hd
    rcases List.mem_cons.mp hd with rfl | hd
    · omega
    · exact b d hd
section NMS
variable {S A B : Nat} {σ : MS × MS} {μ : MS}
theorem nm32 (h : TK S A B σ μ) (h1 : gi (own σ) 3 = 1) : ∀ (n k : Nat), A + k ≤ B → B < n + A + k → (f_X7_name_L41 σ n (n32 (nmL σ A k)) (nI (A + k))).1 = n32 (nmL σ A (B - A)) := by
  have hS := h.1.1
  have hAB := h.2.2.2.1
  intro n
  induction n with
  | zero => intro k h2 h3; omega
  | succ n ih =>
    intro k h2 h3
    rw [f_X7_name_L41, h.2.2.1.1]
    by_cases c : B ≤ A + k
    · rw [if_pos (Int32.le_iff_toInt_le.mpr (by rw [nI_toInt (by omega), nI_toInt (by omega)]; omega)), show B - A = k by omega]
    · rw [if_neg (fun q => by have := c_le q; rw [nI_toInt (by omega), nI_toInt (by omega)] at this; omega), nI_1]
      dsimp only
      have q := h.2.2.2.2.2.2.2.1 h1 (A + k) (by omega) (by omega)
      unfold isLt at q
      have e1 : ga (own σ) 1 (nI (A + k)) = nI (bt σ (A + k)).toInt.toNat := (nI_of_toInt (x := bt σ (A + k)) (by omega)).symm
      have e2 : (n32 (nmL σ A k) * 32 + (ga (own σ) 1 (nI (A + k))).toInt64) - 96 = n32 (nmL σ A (k + 1)) := by
        rw [e1, nI_l (by omega)]
        unfold n32
        rw [nmL, List.map_cons, rv, show (32 : Int64) = lN 32 from rfl, show (96 : Int64) = lN 96 from rfl, lN_mul, lN_add, lN_sub (by omega)]
        congr 1
        omega
      rw [e2, Nat.add_assoc]
      exact ih (k + 1) (by omega) (by omega)
theorem nm256 (h : TK S A B σ μ) (h1 : gi (own σ) 3 = 1) (h8 : B - A ≤ 8) : ∀ (n k : Nat), A + k ≤ B → B < n + A + k → (f_X6_nameHere_L7 μ n (n256 (nmL σ A k)) (nI (A + k))).1 = n256 (nmL σ A (B - A)) := by
  have hS := h.1.1
  have hAB := h.2.2.2.1
  intro n
  induction n with
  | zero => intro k h2 h3; omega
  | succ n ih =>
    intro k h2 h3
    rw [f_X6_nameHere_L7, h.2.2.1.2]
    by_cases c : B ≤ A + k
    · rw [if_pos (Int32.le_iff_toInt_le.mpr (by rw [nI_toInt (by omega), nI_toInt (by omega)]; omega)), show B - A = k by omega]
    · rw [if_neg (fun q => by have := c_le q; rw [nI_toInt (by omega), nI_toInt (by omega)] at this; omega), nI_1]
      dsimp only
      have q := h.2.2.2.2.2.2.2.1 h1 (A + k) (by omega) (by omega)
      have ok := (nmL_ok (σ := σ) (A := A) (k + 1) (by omega) (fun j a b => h.2.2.2.2.2.2.2.1 h1 j a (by omega))).1
      have okb := (n256_b ok).2
      unfold isLt at q
      have hlt : A + k < S := by omega
      have e0 : bt σ (A + k) &&& 255 = bt σ (A + k) := (isB_f (h.1.b hlt)).2.2.2.2.2.2.2.2.2 (Int32.le_iff_toInt_le.mpr (by rw [z_0]; omega))
      have e1 : bt σ (A + k) = nI (bt σ (A + k)).toInt.toNat := (nI_of_toInt (x := bt σ (A + k)) (by omega)).symm
      have e2 : (n256 (nmL σ A k) <<< ((8 : Int32).toInt64 &&& (63 : Int64))) ||| (bt σ (A + k)).toInt64 = n256 (nmL σ A (k + 1)) := by
        rw [e1, nI_l (by omega)]
        unfold n256
        rw [nmL, rv] at okb ⊢
        rw [show (8 : Int32) = nI 8 from rfl, wb_shl _ (by omega), show (2 : Nat) ^ 8 = 256 from rfl, g_or (k := 8) (p := 256) rfl (by omega) okb]
      rw [h.1.at hlt, e0, e2, Nat.add_assoc]
      exact ih (k + 1) (by omega) (by omega)
theorem nm_e2 (h : TK S A B σ μ) (h1 : gi (own σ) 3 = 1) (h8 : B - A ≤ 8) : NMr (f_X7_name_L41 σ 901 0 (gi (own σ) 1)).1 (f_X6_nameHere μ) := by
  have hS := h.1.1
  have hAB := h.2.2.2.1
  refine ⟨nmL σ A (B - A), (nmL_ok (B - A) h8 (fun j a b => h.2.2.2.2.2.2.2.1 h1 j a (by omega))).1, ?_, ?_⟩
  · rw [h.2.1.1]
    exact nm32 h h1 901 0 (by omega) (by omega)
  · unfold f_X6_nameHere
    dsimp only
    rw [h.2.1.2]
    exact nm256 h h1 h8 901 0 (by omega) (by omega)
/-- who it is -/
theorem e_find {τ : MS} {n : Nat} {base : Int32} {a : Int64} (hn : gi τ 1 = nI n) (hn6 : n ≤ 6) (hN : ∀ p, p < n → NMr (gb τ 20 (nI p)) (gb μ 1 (base + nI p))) (ha : NMr a (f_X6_nameHere μ)) : ∀ (k p : Nat), k + p = 7 → f_X5_named_L2 τ a k (nI p) = f_X6_findHere_L2 μ base (nI n) k (nI p)
  | 0, p, h => rfl
  | k + 1, p, h => by
    rw [f_X5_named_L2, f_X6_findHere_L2, hn]
    by_cases c : nI n ≤ nI p
    · rw [if_pos c, if_pos c]
    · have c' := c_nle c
      rw [nI_toInt (by omega), nI_toInt (by omega)] at c'
      rw [if_neg c, if_neg c]
      dsimp only
      have q := (hN p (by omega)).iff ha
      by_cases c2 : gb τ 20 (nI p) = a
      · rw [if_pos (cmp_0.mpr c2), if_pos (cmp_0.mpr (q.mp c2))]
      · rw [if_neg (fun z => c2 (cmp_0.mp z)), if_neg (fun z => c2 (q.mpr (cmp_0.mp z))), nI_1]
        exact e_find hn hn6 hN ha k (p + 1) (by omega)
theorem e_named {τ : MS} {n : Nat} {base : Int32} {a : Int64} (hn : gi τ 1 = nI n) (hn6 : n ≤ 6) (hN : ∀ p, p < n → NMr (gb τ 20 (nI p)) (gb μ 1 (base + nI p))) (ha : NMr a (f_X6_nameHere μ)) : f_X5_named τ a = f_X6_findHere μ base (nI n) := by
  unfold f_X5_named f_X6_findHere
  rw [← nI_0]
  exact e_find hn hn6 hN ha 7 0 rfl
theorem find_rng {base : Int32} {n : Nat} (hn6 : n ≤ 6) : f_X6_findHere μ base (nI n) = -1 ∨ ∃ p, p < n ∧ f_X6_findHere μ base (nI n) = nI p := by
  have go : ∀ (k p : Nat), k + p = 7 → p ≤ n → f_X6_findHere_L2 μ base (nI n) k (nI p) = -1 ∨ ∃ q, q < n ∧ f_X6_findHere_L2 μ base (nI n) k (nI p) = nI q := by
    intro k
    induction k with
    | zero => intro p h h2; omega
    | succ k ih =>
      intro p h h2
      rw [f_X6_findHere_L2]
      by_cases c : nI n ≤ nI p
      · rw [if_pos c]; exact Or.inl rfl
      · have c' := c_nle c
        rw [nI_toInt (by omega), nI_toInt (by omega)] at c'
        rw [if_neg c]
        dsimp only
        by_cases c2 : lg_cmp (gb μ 1 (base + nI p)) (f_X6_nameHere μ) = 0
        · rw [if_pos c2]; exact Or.inr ⟨p, by omega, rfl⟩
        · rw [if_neg c2, nI_1]
          exact ih (p + 1) (by omega) (by omega)
  have := go 7 0 rfl (by omega)
  rw [nI_0] at this
  exact this
end NMS
